/-! THE CLASS: an algebra is made; a dial is added -/
set_option maxRecDepth 100000
theorem zAny.cc {l : Launch} {s0 : State} {G : zG} {H : Heap} {k : Nat} (hE : zE l s0 G) (ho : zO s0 H) (hk : k < 256) : zAny s0 H (G.2 (1000 + k)) := by
  obtain ⟨a0, ht⟩ := hE.1
  obtain ⟨c0, t0, f1, f2, f3⟩ := Cond.castable_spec (ht _ q1978)
  obtain ⟨cell, h1, h2, h3, -⟩ := hE.2.2.2.1.2.2.2.1.2.2.2.1 k hk
  have h4 : H[G.2 (1000 + k)]? = some cell := by rw [ho.2 _ (Array.getElem?_eq_some_iff.mp h1).1]; exact h1
  obtain ⟨kC, hkC, -⟩ := Vm.findClass_spec h3
  refine ⟨cell, h4, h2, ⟨kC, hkC⟩, fun comp hc => ?_⟩
  cases Option.some.inj (hc.symm.trans f2)
  cases Option.some.inj (h3.symm.trans f1)
  exact f3
theorem zD3 {A : Nat → Prop} {a b c : Nat} {e f g : va_E} (h : A a) (h2 : A b) (h3 : A c) (n1 : a ≠ b) (n2 : a ≠ c) (n3 : b ≠ c) : va_D A [(a, e), (b, f), (c, g)] :=
  va_D.of_pw (by simp [n1, n2, n3]) (by simp [h, h2, h3])
/-- a table under way -/
def grD (n : Nat) (S : Nat → Nat → Int) (i j : Nat) (F : Nat → Nat → Int) : Prop := ∀ r c, r < n → c < n → F r c = if r < i ∨ (r = i ∧ c < j) then S r c else 0
theorem grD_0 (n : Nat) (S : Nat → Nat → Int) : grD n S 0 0 (fun _ _ => 0) := fun r c hr hc => by rw [if_neg (by omega)]
theorem grD_row {n i : Nat} {S : Nat → Nat → Int} {F : Nat → Nat → Int} (h : grD n S i n F) : grD n S (i + 1) 0 F := by
  intro r c hr hc
  rw [h r c hr hc]
  congr 1
  exact propext ⟨fun z => by omega, fun z => by omega⟩
theorem grD_step {n i j : Nat} {S : Nat → Nat → Int} {F : Nat → Nat → Int} {x : Int} (h : grD n S i j F) (hx : x = S i j) : grD n S i (j + 1) (fun jj => if jj = i then va_up (F i) j x else F jj) := by
  intro r c hr hc
  show (if r = i then va_up (F i) j x else F r) c = _
  by_cases e : r = i
  · subst e
    rw [if_pos rfl]
    by_cases e2 : c = j
    · subst e2; rw [va_up_self, hx, if_pos (by omega)]
    · rw [va_up_ne _ _ e2, h _ _ hr hc]
      congr 1
      exact propext ⟨fun z => by omega, fun z => by omega⟩
  · rw [if_neg e, h r c hr hc]
    congr 1
    exact propext ⟨fun z => by omega, fun z => by omega⟩
abbrev rm_m_X5_units_g : Room := { frames := 1, cells := 0, slots := 0, locals := 20 }
set_option maxHeartbeats 4000000 in
theorem m_X5_units_g {l : Launch} {s0 : State} {G : zG} (hE : zE l s0 G) (H0 : Heap) (hO : zO s0 H0) (x g kq dl ml so d : Nat) (c : Nat → Nat) (da : Nat) (dm : Int) (hg0 : zAt G g (zOb 4 [.ref kq, .ref dl, .ref ml, .ref so, .ref x]) H0) (hL : zLs G dl d c da dm H0) (hd : d ≤ 4) : zM l s0 yX5_units cX5_units 1 (some FieldType.int) rm_m_X5_units_g [.ref g] H0 M0 (ri (fun y _ => y = (2 ^ d : Nat))) := by
  refine z_met hE (by decide +kernel) (Nat.le_of_ble_eq_true rfl) ?_
  intro pp ee ss mm args below meth cd Q ls hC hml hrt hlk hnm hH hQ hS hl
  have hx := hC.x
  have hb := hC.b
  have hl : lv_has ls 1 [(0, .ref g)] := hl
  have hP : va_P G.1 zCl [] H0 := va_nil
  have hD : va_D (zA M0 H0) [] := va_nilD
  refine lv_iconst (v := iI 1) hx hb dX5_units_0 rfl ?_
  refine lv_aload_n hx hb dX5_units_1 rfl (lv_at hl 0 rfl) ?_
  refine z_get hC (k := 1) rfl in_X5 (zo hS hg0 id) (by decide) q958 (fun _ h => h) rfl dX5_units_2 ?_
  refine z_go 0 0 (z_runV (As := []) (rest := [.int (iI 1)]) hC hml hl.1 (m_J2_size hE H0 (hO.ext0 (zS_F hS)) dl d c da dm (hL.ext0 (zS_F hS))) (lw_V q301 q230 q231 q65 q232) rfl nd_J2_size rfl (z_rv hC (ci := 8) rfl (zo hS hL.1 id) rfl) rfl (Nat.le_of_ble_eq_true rfl) ⟨Nat.le_of_ble_eq_true rfl, Nat.le_of_ble_eq_true rfl⟩ ⟨zfit (k := 0) (z := 0) rfl rfl (by omega), zfit (k := 0) (z := 0) rfl rfl (by omega)⟩ dX5_units_5) ⟨zad (k := 0) rfl (by omega), zad (k := 0) rfl (by omega)⟩ hS (fun _ z => z.elim) (fun r H1 locs hp hF hS1 => ?_)
  obtain ⟨_, rfl, rfl⟩ := hp
  have hP := zpk hP hF
  have hP : va_P G.1 zCl ([]) H1 := hP
  have hD : va_D (zA M0 H0) ([]) := hD
  have hS := hS1
  have h2d : 2 ^ d ≤ 2 ^ 4 := Nat.pow_le_pow_right (by decide) hd
  refine z_shl hx hb (i := 1) (j := d) (n := 1 * 2 ^ d) dX5_units_8 rfl rfl (by omega) rfl ?_
  refine z_top (b := ((2 ^ d : Nat) : Int)) (by rw [Nat.one_mul]) ?_
  exact z_iret hC hrt hlk hQ hS ⟨zle (z := 0) rfl (by omega), zle (z := 0) rfl (by omega)⟩ ⟨_, rfl, rfl⟩ dX5_units_9

abbrev rm_m_X5_init : Room := { frames := 4, cells := 4, slots := 8, locals := 80 }
set_option maxHeartbeats 4000000 in
theorem m_X5_init {l : Launch} {s0 : State} {G : zG} (hE : zE l s0 G) (H0 : Heap) (hO : zO s0 H0) (g x kd : Nat) (hq : s0.heap.size ≤ g) (h : zAt G g (zOb 4 [.null, .null, .null, .null, .null]) H0) : zM l s0 yX5_init cX5_init 3 (none : Option FieldType) rm_m_X5_init [.ref g, .ref x, .ref (G.2 (10 + kd))] H0 (fun z => z = g) (rv (fun h1 => ∃ dl ml so r0, va_P G.1 zCl [(g, zOb 4 [.ref (G.2 (10 + kd)), .ref dl, .ref ml, .ref so, .ref x]), (dl, zOb 8 [.int (iI 0), .ref (G.2 12), .int (iI 0)]), (ml, zOb 8 [.int (iI 0), .ref (G.2 12), .int (iI 0)]), (so, zII G 1 (fun _ => some r0)), (r0, zI G 1 (fun _ => 1))] h1 ∧ va_D (zA (fun z => z = g) H0) [(g, zOb 4 [.ref (G.2 (10 + kd)), .ref dl, .ref ml, .ref so, .ref x]), (dl, zOb 8 [.int (iI 0), .ref (G.2 12), .int (iI 0)]), (ml, zOb 8 [.int (iI 0), .ref (G.2 12), .int (iI 0)]), (so, zII G 1 (fun _ => some r0)), (r0, zI G 1 (fun _ => 1))])) := by
  refine z_met hE (by decide +kernel) (Nat.le_of_ble_eq_true rfl) ?_
  intro pp ee ss mm args below meth cd Q ls hC hml hrt hlk hnm hH hQ hS hl
  have hx := hC.x
  have hb := hC.b
  have hl : lv_has ls 3 [(0, .ref g), (1, .ref x), (2, .ref (G.2 (10 + kd)))] := hl
  have hP : va_P G.1 zCl [(g, zOb 4 [.null, .null, .null, .null, .null])] H0 := zP1 h
  have hD : va_D (zA (fun z => z = g) H0) [(g, zOb 4 [.null, .null, .null, .null, .null])] := zD1 (Or.inl rfl)
  have hMo : ∀ z, (fun z => z = g) z → s0.heap.size ≤ z := fun z hz => hz ▸ hq
  refine lv_aload_n hx hb dX5_init_0 rfl (lv_at hl 0 rfl) ?_
  refine lv_aload_n hx hb dX5_init_1 rfl (lv_at hl 1 rfl) ?_
  refine z_putF hC hnm hP hD hS 0 (k := 4) rfl rfl in_X5 tyX5_ok nmX5 (by decide) q965 (fun _ h => h) rfl rfl rfl rfl rfl (Nat.le_of_ble_eq_true rfl) (ws' := [(g, zOb 4 [.null, .null, .null, .null, .ref x])]) rfl dX5_init_2 (fun H1 locs hP hD hS => ?_)
  refine lv_aload_n hx hb dX5_init_5 rfl (lv_at hl 0 rfl) ?_
  refine W.objInit hx hb hC.o (hC.t _ q951) (hC.t _ q108) (hC.t _ q109) rfl (by rw [hml]; exact hl.1) rfl dX5_init_6 (Nat.le_of_ble_eq_true rfl) (Nat.le_of_ble_eq_true rfl) ?_
  refine W.eq (g2 := F0 mm 9 ls []) rfl ?_
  refine lv_aload_n hx hb dX5_init_9 rfl (lv_at hl 0 rfl) ?_
  refine z_new hC hP hD hS (c1 := 1) (s1 := 3) (fs := [.int (iI 0), .null, .int (iI 0)]) (ci := 8) rfl in_J2 tyJ2_ok q952 q111 q65 df_J2 ⟨zle (z := 4) rfl (by omega), zle (z := 8) rfl (by omega)⟩ ⟨by omega, by omega⟩ (ws' := fun q2 => [(g, zOb 4 [.null, .null, .null, .null, .ref x]), (q2, zOb 8 [.int (iI 0), .null, .int (iI 0)])]) (fun _ => rfl) dX5_init_10 (fun q2 H3 hq0q2 hq1q2 hP hD hS hF => ?_)
  refine lv_dup hx hb dX5_init_13 rfl ?_
  refine z_go 1 3 (z_runI (As := []) (rest := [.ref q2, .ref g]) hC hml hl.1 (m_J2_init hE H3 (hO.ext (zS_F hS) hMo) q2 (Nat.le_trans hO.1 hq0q2) (hP 1 _ rfl)) q114 q65 q953 q113 rfl nd_J2_init rfl rfl (Nat.le_of_ble_eq_true rfl) ⟨Nat.le_of_ble_eq_true rfl, Nat.le_of_ble_eq_true rfl⟩ ⟨zfit (k := 0) (z := 4) rfl rfl (by omega), zfit (k := 0) (z := 8) rfl rfl (by omega)⟩ dX5_init_14) ⟨zad (k := 0) rfl (by omega), zad (k := 0) rfl (by omega)⟩ hS (fun q z => by subst z; exact hD.2 1 _ rfl) (fun r H4 locs hp hF hS1 => ?_)
  obtain ⟨rfl, hm⟩ := hp
  obtain ⟨hP, hD⟩ := zjm hP hD hF 1 rfl hm
  have hP : va_P G.1 zCl ([(g, zOb 4 [.null, .null, .null, .null, .ref x]), (q2, zOb 8 [.int (iI 0), .ref (G.2 12), .int (iI 0)])]) H4 := hP
  have hD : va_D (zA (fun z => z = g) H0) ([(g, zOb 4 [.null, .null, .null, .null, .ref x]), (q2, zOb 8 [.int (iI 0), .ref (G.2 12), .int (iI 0)])]) := hD
  have hS := hS1
  refine z_putF hC hnm hP hD hS 0 (k := 1) rfl rfl in_X5 tyX5_ok nmX5 (by decide) q958 (fun _ h => h) rfl rfl rfl rfl rfl (Nat.le_of_ble_eq_true rfl) (ws' := [(g, zOb 4 [.null, .ref q2, .null, .null, .ref x]), (q2, zOb 8 [.int (iI 0), .ref (G.2 12), .int (iI 0)])]) rfl dX5_init_17 (fun H5 locs hP hD hS => ?_)
  refine lv_aload_n hx hb dX5_init_20 rfl (lv_at hl 0 rfl) ?_
  refine z_new hC hP hD hS (c1 := 2) (s1 := 6) (fs := [.int (iI 0), .null, .int (iI 0)]) (ci := 8) rfl in_J2 tyJ2_ok q952 q111 q65 df_J2 ⟨zle (z := 4) rfl (by omega), zle (z := 8) rfl (by omega)⟩ ⟨by omega, by omega⟩ (ws' := fun q6 => [(g, zOb 4 [.null, .ref q2, .null, .null, .ref x]), (q2, zOb 8 [.int (iI 0), .ref (G.2 12), .int (iI 0)]), (q6, zOb 8 [.int (iI 0), .null, .int (iI 0)])]) (fun _ => rfl) dX5_init_21 (fun q6 H7 hq0q6 hq1q6 hP hD hS hF => ?_)
  refine lv_dup hx hb dX5_init_24 rfl ?_
  refine z_go 2 6 (z_runI (As := []) (rest := [.ref q6, .ref g]) hC hml hl.1 (m_J2_init hE H7 (hO.ext (zS_F hS) hMo) q6 (Nat.le_trans hO.1 hq0q6) (hP 2 _ rfl)) q114 q65 q953 q113 rfl nd_J2_init rfl rfl (Nat.le_of_ble_eq_true rfl) ⟨Nat.le_of_ble_eq_true rfl, Nat.le_of_ble_eq_true rfl⟩ ⟨zfit (k := 0) (z := 4) rfl rfl (by omega), zfit (k := 0) (z := 8) rfl rfl (by omega)⟩ dX5_init_25) ⟨zad (k := 0) rfl (by omega), zad (k := 0) rfl (by omega)⟩ hS (fun q z => by subst z; exact hD.2 2 _ rfl) (fun r H8 locs hp hF hS1 => ?_)
  obtain ⟨rfl, hm⟩ := hp
  obtain ⟨hP, hD⟩ := zjm hP hD hF 2 rfl hm
  have hP : va_P G.1 zCl ([(g, zOb 4 [.null, .ref q2, .null, .null, .ref x]), (q2, zOb 8 [.int (iI 0), .ref (G.2 12), .int (iI 0)]), (q6, zOb 8 [.int (iI 0), .ref (G.2 12), .int (iI 0)])]) H8 := hP
  have hD : va_D (zA (fun z => z = g) H0) ([(g, zOb 4 [.null, .ref q2, .null, .null, .ref x]), (q2, zOb 8 [.int (iI 0), .ref (G.2 12), .int (iI 0)]), (q6, zOb 8 [.int (iI 0), .ref (G.2 12), .int (iI 0)])]) := hD
  have hS := hS1
  refine z_putF hC hnm hP hD hS 0 (k := 2) rfl rfl in_X5 tyX5_ok nmX5 (by decide) q960 (fun _ h => h) rfl rfl rfl rfl rfl (Nat.le_of_ble_eq_true rfl) (ws' := [(g, zOb 4 [.null, .ref q2, .ref q6, .null, .ref x]), (q2, zOb 8 [.int (iI 0), .ref (G.2 12), .int (iI 0)]), (q6, zOb 8 [.int (iI 0), .ref (G.2 12), .int (iI 0)])]) rfl dX5_init_28 (fun H9 locs hP hD hS => ?_)
  refine lv_aload_n hx hb dX5_init_31 rfl (lv_at hl 0 rfl) ?_
  refine lv_iconst (v := iI 1) hx hb dX5_init_32 rfl ?_
  refine z_newII hC hP hD hS (N := 1) (c1 := 3) (s1 := 7) q954 rfl (by omega) ⟨zle (z := 4) rfl (by omega), zle (z := 8) rfl (by omega)⟩ ⟨by omega, by omega⟩ (ws' := fun q10 => [(g, zOb 4 [.null, .ref q2, .ref q6, .null, .ref x]), (q2, zOb 8 [.int (iI 0), .ref (G.2 12), .int (iI 0)]), (q6, zOb 8 [.int (iI 0), .ref (G.2 12), .int (iI 0)]), (q10, zII G 1 (fun _ => none))]) (fun _ => rfl) dX5_init_33 (fun q10 H11 hq0q10 hq1q10 hP hD hS hF => ?_)
  refine lv_dup hx hb dX5_init_36 rfl ?_
  refine lv_iconst (v := iI 0) hx hb dX5_init_37 rfl ?_
  refine lv_iconst (v := iI 1) hx hb dX5_init_38 rfl ?_
  refine z_newi hC hP hD hS (N := 1) (c1 := 4) (s1 := 8) rfl (by omega) ⟨zle (z := 4) rfl (by omega), zle (z := 8) rfl (by omega)⟩ ⟨by omega, by omega⟩ (ws' := fun q12 => [(g, zOb 4 [.null, .ref q2, .ref q6, .null, .ref x]), (q2, zOb 8 [.int (iI 0), .ref (G.2 12), .int (iI 0)]), (q6, zOb 8 [.int (iI 0), .ref (G.2 12), .int (iI 0)]), (q10, zII G 1 (fun _ => none)), (q12, zI G 1 (fun _ => 0))]) (fun _ => rfl) dX5_init_39 (fun q12 H13 hq0q12 hq1q12 hP hD hS hF => ?_)
  refine lv_dup hx hb dX5_init_41 rfl ?_
  refine lv_iconst (v := iI 0) hx hb dX5_init_42 rfl ?_
  refine lv_iconst (v := iI 1) hx hb dX5_init_43 rfl ?_
  refine z_iast hC hP hD hS 4 (k := 0) rfl rfl (by omega) (ws' := [(g, zOb 4 [.null, .ref q2, .ref q6, .null, .ref x]), (q2, zOb 8 [.int (iI 0), .ref (G.2 12), .int (iI 0)]), (q6, zOb 8 [.int (iI 0), .ref (G.2 12), .int (iI 0)]), (q10, zII G 1 (fun _ => none)), (q12, zI G 1 (va_up (fun _ => 0) 0 1))]) rfl dX5_init_44 (fun H14 locs hP hD hS => ?_)
  refine z_aastII hC hP hD hS 3 (k := 0) rfl (hP 4 _ rfl) rfl (by omega) (ws' := [(g, zOb 4 [.null, .ref q2, .ref q6, .null, .ref x]), (q2, zOb 8 [.int (iI 0), .ref (G.2 12), .int (iI 0)]), (q6, zOb 8 [.int (iI 0), .ref (G.2 12), .int (iI 0)]), (q10, zII G 1 (va_up (fun _ => none) 0 (some q12))), (q12, zI G 1 (va_up (fun _ => 0) 0 1))]) rfl dX5_init_45 (fun H15 locs hP hD hS => ?_)
  refine z_put hC hP hD hS 0 (k := 3) rfl rfl in_X5 tyX5_ok nmX5 (by decide) q962 (fun _ h => h) rfl rfl rfl rfl (Nat.le_of_ble_eq_true rfl) (ws' := [(g, zOb 4 [.null, .ref q2, .ref q6, .ref q10, .ref x]), (q2, zOb 8 [.int (iI 0), .ref (G.2 12), .int (iI 0)]), (q6, zOb 8 [.int (iI 0), .ref (G.2 12), .int (iI 0)]), (q10, zII G 1 (va_up (fun _ => none) 0 (some q12))), (q12, zI G 1 (va_up (fun _ => 0) 0 1))]) rfl dX5_init_46 (fun H16 locs hP hD hS => ?_)
  refine lv_aload_n hx hb dX5_init_49 rfl (lv_at hl 0 rfl) ?_
  refine lv_aload_n hx hb dX5_init_50 rfl (lv_at hl 2 rfl) ?_
  refine z_putF hC hnm hP hD hS 0 (k := 0) rfl rfl in_X5 tyX5_ok nmX5 (by decide) q955 (fun _ h => h) rfl rfl rfl rfl rfl (Nat.le_of_ble_eq_true rfl) (ws' := [(g, zOb 4 [.ref (G.2 (10 + kd)), .ref q2, .ref q6, .ref q10, .ref x]), (q2, zOb 8 [.int (iI 0), .ref (G.2 12), .int (iI 0)]), (q6, zOb 8 [.int (iI 0), .ref (G.2 12), .int (iI 0)]), (q10, zII G 1 (va_up (fun _ => none) 0 (some q12))), (q12, zI G 1 (va_up (fun _ => 0) 0 1))]) rfl dX5_init_51 (fun H17 locs hP hD hS => ?_)
  have hP : va_P G.1 zCl ([(g, zOb 4 [.ref (G.2 (10 + kd)), .ref q2, .ref q6, .ref q10, .ref x]), (q2, zOb 8 [.int (iI 0), .ref (G.2 12), .int (iI 0)]), (q6, zOb 8 [.int (iI 0), .ref (G.2 12), .int (iI 0)]), (q10, zII G 1 (va_up (fun _ => none) 0 (some q12))), (q12, zI G 1 (fun _ => 1))]) H17 := zcI hP 4 rfl (fun j hj => by rw [show j = 0 by omega]; rfl)
  have hD : va_D (zA (fun z => z = g) H0) ([(g, zOb 4 [.ref (G.2 (10 + kd)), .ref q2, .ref q6, .ref q10, .ref x]), (q2, zOb 8 [.int (iI 0), .ref (G.2 12), .int (iI 0)]), (q6, zOb 8 [.int (iI 0), .ref (G.2 12), .int (iI 0)]), (q10, zII G 1 (va_up (fun _ => none) 0 (some q12))), (q12, zI G 1 (fun _ => 1))]) := hD.set (p := 4) rfl
  have hP : va_P G.1 zCl [(g, zOb 4 [.ref (G.2 (10 + kd)), .ref q2, .ref q6, .ref q10, .ref x]), (q2, zOb 8 [.int (iI 0), .ref (G.2 12), .int (iI 0)]), (q6, zOb 8 [.int (iI 0), .ref (G.2 12), .int (iI 0)]), (q10, zII G 1 (fun _ => some q12)), (q12, zI G 1 (fun _ => 1))] H17 := hP.setII (q0 := 3) rfl (fun j hj => by rw [show j = 0 by omega]; rfl)
  have hD : va_D (zA (fun z => z = g) H0) [(g, zOb 4 [.ref (G.2 (10 + kd)), .ref q2, .ref q6, .ref q10, .ref x]), (q2, zOb 8 [.int (iI 0), .ref (G.2 12), .int (iI 0)]), (q6, zOb 8 [.int (iI 0), .ref (G.2 12), .int (iI 0)]), (q10, zII G 1 (fun _ => some q12)), (q12, zI G 1 (fun _ => 1))] := hD.set (p := 3) rfl
  exact z_vret hC hrt hlk hQ hS ⟨zle (z := 4) rfl (by omega), zle (z := 8) rfl (by omega)⟩ ⟨rfl, _, _, _, _, hP, hD⟩ dX5_init_54

abbrev rm_m_X5_add : Room := { frames := 7, cells := 18, slots := 282, locals := 221 }
set_option maxHeartbeats 4000000 in
theorem m_X5_add {l : Launch} {s0 : State} {G : zG} (hE : zE l s0 G) (H0 : Heap) (hO : zO s0 H0) (x g la le dr : Nat) (p : Int) (kn sm : Int) (dl d kd : Nat) (dv : Nat → Int) (da : Nat) (dm : Int) (ml so : Nat) (z : Int) (hp : pr357 p) (hx0 : zAt G x (zOb 0 [.int (iI p), .ref la, .ref le, .ref dr, .int (iI kn), .long (lI sm)]) H0) (hg0 : zAt G g (zOb 4 [.ref (G.2 (10 + kd)), .ref dl, .ref ml, .ref so, .ref x]) H0) (hL : zLs G dl d (fun i => G.2 (1000 + ((dv i).toNat + 128))) da dm H0) (hdv : ∀ i, i < d → 0 < dv i ∧ dv i < p) (hd : d < 4 ∧ kd < 2) (hz : 0 < z ∧ z < p) (hq : s0.heap.size ≤ g ∧ s0.heap.size ≤ dl) (ha : da ≠ G.2 12 → s0.heap.size ≤ da ∧ dl ≠ da) : zM l s0 yX5_add cX5_add 4 (none : Option FieldType) rm_m_X5_add [.ref g, .int (iI z)] H0 (fun a => a = g ∨ a = dl ∨ (a = da ∧ da ≠ G.2 12)) (rv (fun h1 => ∃ arr1 q F, grD (2 ^ (d + 1)) (fun r c => sgK kd (va_up dv d z) (d + 1) r c % p) (2 ^ (d + 1)) 0 F ∧ ((arr1 = da ∧ da ≠ G.2 12) ∨ H0.size ≤ arr1) ∧ arr1 ≠ G.2 12 ∧ H0.size ≤ q ∧ va_P G.1 zCl ([(g, zOb 4 [.ref (G.2 (10 + kd)), .ref dl, .ref ml, .ref q, .ref x]), (dl, zOb 8 [.int (iI (dm + 1)), .ref arr1, .int (iI ((d + 1 : Nat) : Int))]), (arr1, zR G 10 (lf (d + 1) (va_up (fun i => G.2 (1000 + ((dv i).toNat + 128))) d (G.2 (1000 + (z.toNat + 128)))))), (q, zII G (2 ^ (d + 1)) (fun i => some (q + 1 + i)))] ++ (zRows G (2 ^ (d + 1)) (2 ^ (d + 1)) (fun i => q + 1 + i) F ++ [])) h1 ∧ va_D (zA (fun a => a = g ∨ a = dl ∨ (a = da ∧ da ≠ G.2 12)) H0) ([(g, zOb 4 [.ref (G.2 (10 + kd)), .ref dl, .ref ml, .ref q, .ref x]), (dl, zOb 8 [.int (iI (dm + 1)), .ref arr1, .int (iI ((d + 1 : Nat) : Int))]), (arr1, zR G 10 (lf (d + 1) (va_up (fun i => G.2 (1000 + ((dv i).toNat + 128))) d (G.2 (1000 + (z.toNat + 128)))))), (q, zII G (2 ^ (d + 1)) (fun i => some (q + 1 + i)))] ++ (zRows G (2 ^ (d + 1)) (2 ^ (d + 1)) (fun i => q + 1 + i) F ++ [])))) := by
  refine z_met hE (by decide +kernel) (Nat.le_of_ble_eq_true rfl) ?_
  intro pp ee ss mm args below meth cd Q ls hC hml hrt hlk hnm hH hQ hS hl
  have hx := hC.x
  have hb := hC.b
  have hl : lv_has ls 4 [(0, .ref g), (1, .int (iI z))] := hl
  have hP : va_P G.1 zCl [(g, zOb 4 [.ref (G.2 (10 + kd)), .ref dl, .ref ml, .ref so, .ref x])] H0 := zP1 hg0
  have hD : va_D (zA (fun a => a = g ∨ a = dl ∨ (a = da ∧ da ≠ G.2 12)) H0) [(g, zOb 4 [.ref (G.2 (10 + kd)), .ref dl, .ref ml, .ref so, .ref x])] := zD1 (Or.inl (Or.inl rfl))
  have hMo : ∀ a, (fun a => a = g ∨ a = dl ∨ (a = da ∧ da ≠ G.2 12)) a → s0.heap.size ≤ a := fun a h => by rcases h with h | h | h; rw [h]; exact hq.1; rw [h]; exact hq.2; rw [h.1]; exact (ha h.2).1
  have hp7 : 0 < p ∧ p ≤ 7 := by rcases hp with rfl | rfl | rfl <;> decide
  have hnda : da ≠ G.2 12 → zAt G da (zR G 10 (lf d (fun i => G.2 (1000 + ((dv i).toNat + 128))))) H0 := fun h => hL.2.elim (fun w => absurd w.1 h) (fun w => w.2.2)
  have hngl : g ≠ dl := z_noCls hE (ci := 4) (cj := 8) rfl rfl (by decide) hg0 hL.1
  have hnx : ¬ (x = g ∨ x = dl ∨ (x = da ∧ da ≠ G.2 12)) := fun h => by rcases h with h | h | h; exact z_noCls hE (ci := 0) (cj := 4) rfl rfl (by decide) hx0 hg0 h; exact z_noCls hE (ci := 0) (cj := 8) rfl rfl (by decide) hx0 hL.1 h; exact z_noArr hE (ci := 0) (t := 3) rfl hx0 rfl (hnda h.2) h.1
  have hL1 := hL
  refine lv_aload_n hx hb dX5_add_0 rfl (lv_at hl 0 rfl) ?_
  refine z_get hC (k := 1) rfl in_X5 (hP 0 _ rfl) (by decide) q958 (fun _ h => h) rfl dX5_add_1 ?_
  refine lv_iload_n hx hb dX5_add_4 rfl (lv_at hl 1 rfl) ?_
  refine z_top (b := ((z.toNat : Nat) : Int)) (by omega) ?_
  refine z_go 0 0 (z_runS (As := [.int (iI ((z.toNat : Nat) : Int))]) (rest := [.ref dl]) hC hml hl.1 (m_J19_valueOf hE H0 (hO.ext (zS_F hS) hMo) z.toNat (by omega)) (lw_S q1086 q1087 q90 q1088) nd_J19_valueOf rfl rfl (Nat.le_of_ble_eq_true rfl) ⟨Nat.le_of_ble_eq_true rfl, Nat.le_of_ble_eq_true rfl⟩ ⟨zfit (k := 0) (z := 18) rfl rfl (by omega), zfit (k := 0) (z := 282) rfl rfl (by omega)⟩ dX5_add_5) ⟨zad (k := 0) rfl (by omega), zad (k := 0) rfl (by omega)⟩ hS (fun _ z => z.elim) (fun r H1 locs hp hF hS1 => ?_)
  obtain ⟨_, rfl, rfl⟩ := hp
  have hP := zpk hP hF
  have hP : va_P G.1 zCl ([(g, zOb 4 [.ref (G.2 (10 + kd)), .ref dl, .ref ml, .ref so, .ref x])]) H1 := hP
  have hD : va_D (zA (fun a => a = g ∨ a = dl ∨ (a = da ∧ da ≠ G.2 12)) H0) ([(g, zOb 4 [.ref (G.2 (10 + kd)), .ref dl, .ref ml, .ref so, .ref x])]) := hD
  have hL1 : zLs G dl d (fun i => G.2 (1000 + ((dv i).toNat + 128))) da dm H1 := hL1.ext0 hF
  have hS := hS1
  have hzc : G.2 (1000 + (z.toNat + 128)) < s0.heap.size := zO_old (hE.2.2.2.1.2.2.2.1.2.2.2.1 (z.toNat + 128) (by omega))
  refine z_go 1 10 (z_runV (As := [.ref (G.2 (1000 + (z.toNat + 128)))]) (rest := []) hC hml hl.1 (m_J2_add hE H1 (hO.ext (zS_F hS) hMo) dl d _ da dm (G.2 (1000 + (z.toNat + 128))) hq.2 ha (by omega) hL1 (zAny.cc hE (hO.ext (zS_F hS) hMo) (by omega)) (by omega)) (lw_V q1105 q978 q979 q65 q980) rfl nd_J2_add rfl (z_rv hC (ci := 8) rfl hL1.1 rfl) rfl (Nat.le_of_ble_eq_true rfl) ⟨Nat.le_of_ble_eq_true rfl, Nat.le_of_ble_eq_true rfl⟩ ⟨zfit (k := 1) (z := 18) rfl rfl (by omega), zfit (k := 10) (z := 282) rfl rfl (by omega)⟩ dX5_add_8) ⟨zad (k := 1) rfl (by omega), zad (k := 10) rfl (by omega)⟩ hS (fun a h => h.elim (fun e => Or.inl (Or.inr (Or.inl e))) (fun e => Or.inl (Or.inr (Or.inr e)))) (fun r H2 locs hp hF hS1 => ?_)
  obtain ⟨_, rfl, rfl, arr1, hL2, harr⟩ := hp
  have hg1 : zAt G g (zOb 4 [.ref (G.2 (10 + kd)), .ref dl, .ref ml, .ref so, .ref x]) H2 := zAt.ext (hP 0 _ rfl) hF (fun h => h.elim hngl (fun h => z_noArr hE (ci := 4) (t := 3) rfl hg0 rfl (hnda h.2) h.1))
  obtain ⟨hlc, hla⟩ := hL2
  obtain ⟨-, hne2, hla⟩ := hla.resolve_left (fun w => by omega)
  have n1 : g ≠ arr1 := z_noArr hE (ci := 4) (t := 3) rfl hg1 rfl hla
  have n2 : dl ≠ arr1 := z_noArr hE (ci := 8) (t := 3) rfl hlc rfl hla
  have harr2 : (arr1 = da ∧ da ≠ G.2 12) ∨ H0.size ≤ arr1 := harr.imp id (fun h => Nat.le_trans hS.1 h)
  have hP : va_P G.1 zCl [(g, zOb 4 [.ref (G.2 (10 + kd)), .ref dl, .ref ml, .ref so, .ref x]), (dl, zOb 8 [.int (iI (dm + 1)), .ref arr1, .int (iI ((d + 1 : Nat) : Int))]), (arr1, zR G 10 (lf (d + 1) (va_up (fun i => G.2 (1000 + ((dv i).toNat + 128))) d (G.2 (1000 + (z.toNat + 128))))))] H2 := (zP1 hg1).app (zP2 hlc hla)
  have hD : va_D (zA (fun a => a = g ∨ a = dl ∨ (a = da ∧ da ≠ G.2 12)) H0) [(g, zOb 4 [.ref (G.2 (10 + kd)), .ref dl, .ref ml, .ref so, .ref x]), (dl, zOb 8 [.int (iI (dm + 1)), .ref arr1, .int (iI ((d + 1 : Nat) : Int))]), (arr1, zR G 10 (lf (d + 1) (va_up (fun i => G.2 (1000 + ((dv i).toNat + 128))) d (G.2 (1000 + (z.toNat + 128))))))] := zD3 (Or.inl (Or.inl rfl)) (Or.inl (Or.inr (Or.inl rfl))) (harr2.elim (fun h => Or.inl (Or.inr (Or.inr h))) Or.inr) hngl n1 n2
  have hP : va_P G.1 zCl ([(g, zOb 4 [.ref (G.2 (10 + kd)), .ref dl, .ref ml, .ref so, .ref x]), (dl, zOb 8 [.int (iI (dm + 1)), .ref arr1, .int (iI ((d + 1 : Nat) : Int))]), (arr1, zR G 10 (lf (d + 1) (va_up (fun i => G.2 (1000 + ((dv i).toNat + 128))) d (G.2 (1000 + (z.toNat + 128))))))]) H2 := hP
  have hD : va_D (zA (fun a => a = g ∨ a = dl ∨ (a = da ∧ da ≠ G.2 12)) H0) ([(g, zOb 4 [.ref (G.2 (10 + kd)), .ref dl, .ref ml, .ref so, .ref x]), (dl, zOb 8 [.int (iI (dm + 1)), .ref arr1, .int (iI ((d + 1 : Nat) : Int))]), (arr1, zR G 10 (lf (d + 1) (va_up (fun i => G.2 (1000 + ((dv i).toNat + 128))) d (G.2 (1000 + (z.toNat + 128))))))]) := hD
  have hS := hS1
  have h2d : 1 ≤ 2 ^ (d + 1) ∧ 2 ^ (d + 1) ≤ 16 := p2_16 (show d + 1 ≤ 4 by omega) rfl
  refine lv_pop hx hb dX5_add_11 rfl ?_
  refine lv_aload_n hx hb dX5_add_12 rfl (lv_at hl 0 rfl) ?_
  refine lv_aload_n hx hb dX5_add_13 rfl (lv_at hl 0 rfl) ?_
  refine z_go 1 10 (z_runV (As := []) (rest := [.ref g]) hC hml hl.1 (m_X5_units_g hE H2 (hO.ext (zS_F hS) hMo) x g (G.2 (10 + kd)) dl ml so (d + 1) _ arr1 (dm + 1) (hP 0 _ rfl) ⟨hP 1 _ rfl, Or.inr ⟨by omega, hne2, hP 2 _ rfl⟩⟩ (by omega)) (lw_V q401 q298 q299 q74 q300) rfl nd_X5_units rfl (z_rv hC (ci := 4) rfl (hP 0 _ rfl) rfl) rfl (Nat.le_of_ble_eq_true rfl) ⟨Nat.le_of_ble_eq_true rfl, Nat.le_of_ble_eq_true rfl⟩ ⟨zfit (k := 0) (z := 18) rfl rfl (by omega), zfit (k := 0) (z := 282) rfl rfl (by omega)⟩ dX5_add_14) ⟨zad (k := 0) rfl (by omega), zad (k := 0) rfl (by omega)⟩ hS (fun _ z => z.elim) (fun r H3 locs hp hF hS1 => ?_)
  obtain ⟨_, rfl, rfl⟩ := hp
  have hP := zpk hP hF
  have hP : va_P G.1 zCl ([(g, zOb 4 [.ref (G.2 (10 + kd)), .ref dl, .ref ml, .ref so, .ref x]), (dl, zOb 8 [.int (iI (dm + 1)), .ref arr1, .int (iI ((d + 1 : Nat) : Int))]), (arr1, zR G 10 (lf (d + 1) (va_up (fun i => G.2 (1000 + ((dv i).toNat + 128))) d (G.2 (1000 + (z.toNat + 128))))))]) H3 := hP
  have hD : va_D (zA (fun a => a = g ∨ a = dl ∨ (a = da ∧ da ≠ G.2 12)) H0) ([(g, zOb 4 [.ref (G.2 (10 + kd)), .ref dl, .ref ml, .ref so, .ref x]), (dl, zOb 8 [.int (iI (dm + 1)), .ref arr1, .int (iI ((d + 1 : Nat) : Int))]), (arr1, zR G 10 (lf (d + 1) (va_up (fun i => G.2 (1000 + ((dv i).toNat + 128))) d (G.2 (1000 + (z.toNat + 128))))))]) := hD
  have hS := hS1
  refine lv_aload_n hx hb dX5_add_17 rfl (lv_at hl 0 rfl) ?_
  refine z_go 1 10 (z_runV (As := []) (rest := [.int (iI ((2 ^ (d + 1) : Nat) : Int)), .ref g]) hC hml hl.1 (m_X5_units_g hE H3 (hO.ext (zS_F hS) hMo) x g (G.2 (10 + kd)) dl ml so (d + 1) _ arr1 (dm + 1) (hP 0 _ rfl) ⟨hP 1 _ rfl, Or.inr ⟨by omega, hne2, hP 2 _ rfl⟩⟩ (by omega)) (lw_V q401 q298 q299 q74 q300) rfl nd_X5_units rfl (z_rv hC (ci := 4) rfl (hP 0 _ rfl) rfl) rfl (Nat.le_of_ble_eq_true rfl) ⟨Nat.le_of_ble_eq_true rfl, Nat.le_of_ble_eq_true rfl⟩ ⟨zfit (k := 0) (z := 18) rfl rfl (by omega), zfit (k := 0) (z := 282) rfl rfl (by omega)⟩ dX5_add_18) ⟨zad (k := 0) rfl (by omega), zad (k := 0) rfl (by omega)⟩ hS (fun _ z => z.elim) (fun r H4 locs hp hF hS1 => ?_)
  obtain ⟨_, rfl, rfl⟩ := hp
  have hP := zpk hP hF
  have hP : va_P G.1 zCl ([(g, zOb 4 [.ref (G.2 (10 + kd)), .ref dl, .ref ml, .ref so, .ref x]), (dl, zOb 8 [.int (iI (dm + 1)), .ref arr1, .int (iI ((d + 1 : Nat) : Int))]), (arr1, zR G 10 (lf (d + 1) (va_up (fun i => G.2 (1000 + ((dv i).toNat + 128))) d (G.2 (1000 + (z.toNat + 128))))))]) H4 := hP
  have hD : va_D (zA (fun a => a = g ∨ a = dl ∨ (a = da ∧ da ≠ G.2 12)) H0) ([(g, zOb 4 [.ref (G.2 (10 + kd)), .ref dl, .ref ml, .ref so, .ref x]), (dl, zOb 8 [.int (iI (dm + 1)), .ref arr1, .int (iI ((d + 1 : Nat) : Int))]), (arr1, zR G 10 (lf (d + 1) (va_up (fun i => G.2 (1000 + ((dv i).toNat + 128))) d (G.2 (1000 + (z.toNat + 128))))))]) := hD
  have hS := hS1
  refine z_multi hC hP hD hS (n := 2 ^ (d + 1)) (c1 := 18) (s1 := 282) q1106 rfl rfl (by omega) ⟨zle (z := 18) rfl (by omega), zle (z := 282) rfl (by omega)⟩ ⟨by omega, by omega⟩ dX5_add_21 (fun q5 H6 hq0q5 hq1q5 hP hD hS hF => ?_)
  have hP : va_P G.1 zCl ([(g, zOb 4 [.ref (G.2 (10 + kd)), .ref dl, .ref ml, .ref so, .ref x]), (dl, zOb 8 [.int (iI (dm + 1)), .ref arr1, .int (iI ((d + 1 : Nat) : Int))]), (arr1, zR G 10 (lf (d + 1) (va_up (fun i => G.2 (1000 + ((dv i).toNat + 128))) d (G.2 (1000 + (z.toNat + 128)))))), (q5, zII G (2 ^ (d + 1)) (fun i => some (q5 + 1 + i)))] ++ (zRows G (2 ^ (d + 1)) (2 ^ (d + 1)) (fun i => q5 + 1 + i) (fun _ _ => 0) ++ [])) H6 := hP
  have hD : va_D (zA (fun a => a = g ∨ a = dl ∨ (a = da ∧ da ≠ G.2 12)) H0) ([(g, zOb 4 [.ref (G.2 (10 + kd)), .ref dl, .ref ml, .ref so, .ref x]), (dl, zOb 8 [.int (iI (dm + 1)), .ref arr1, .int (iI ((d + 1 : Nat) : Int))]), (arr1, zR G 10 (lf (d + 1) (va_up (fun i => G.2 (1000 + ((dv i).toNat + 128))) d (G.2 (1000 + (z.toNat + 128)))))), (q5, zII G (2 ^ (d + 1)) (fun i => some (q5 + 1 + i)))] ++ (zRows G (2 ^ (d + 1)) (2 ^ (d + 1)) (fun i => q5 + 1 + i) (fun _ _ => 0) ++ [])) := hD
  refine z_put hC hP hD hS 0 (k := 3) rfl rfl in_X5 tyX5_ok nmX5 (by decide) q962 (fun _ h => h) rfl rfl rfl rfl (Nat.le_of_ble_eq_true rfl) (ws' := [(g, zOb 4 [.ref (G.2 (10 + kd)), .ref dl, .ref ml, .ref q5, .ref x]), (dl, zOb 8 [.int (iI (dm + 1)), .ref arr1, .int (iI ((d + 1 : Nat) : Int))]), (arr1, zR G 10 (lf (d + 1) (va_up (fun i => G.2 (1000 + ((dv i).toNat + 128))) d (G.2 (1000 + (z.toNat + 128)))))), (q5, zII G (2 ^ (d + 1)) (fun i => some (q5 + 1 + i)))] ++ (zRows G (2 ^ (d + 1)) (2 ^ (d + 1)) (fun i => q5 + 1 + i) (fun _ _ => 0) ++ [])) rfl dX5_add_25 (fun H7 locs hP hD hS => ?_)
  refine lv_iconst (v := iI 0) hx hb dX5_add_28 rfl ?_
  refine lv_istore_n (lv' := [(2, .int (iI 0)), (0, .ref g), (1, .int (iI z))]) hx hb dX5_add_29 rfl hl (by decide) rfl (fun ls hl => ?_)
  have hdv2 : ∀ i, i < d + 1 → 0 < va_up dv d z i ∧ va_up dv d z i < p := fun i hi => by by_cases e : i = d; (rw [e, va_up_self]; exact hz); rw [va_up_ne _ _ e]; exact hdv i (by omega)
  have hcs : ∀ i, i < d + 1 → (va_up (fun i => G.2 (1000 + ((dv i).toNat + 128))) d (G.2 (1000 + (z.toNat + 128)))) i = G.2 (1000 + ((va_up dv d z i).toNat + 128)) := fun i hi => by by_cases e : i = d; (rw [e, va_up_self, va_up_self]); rw [va_up_ne _ _ e, va_up_ne _ _ e]
  have lp8 : ∀ (dlp8 : Nat) (i : Nat) (F : Nat → Nat → Int), 2 ^ (d + 1) - i = dlp8 → (i ≤ 2 ^ (d + 1)) → (grD (2 ^ (d + 1)) (fun r c => sgK kd (va_up dv d z) (d + 1) r c % p) i 0 F) → ∀ (H9 : Heap) (locs : List Loc) (ls : Array Slot), va_P G.1 zCl ([(g, zOb 4 [.ref (G.2 (10 + kd)), .ref dl, .ref ml, .ref q5, .ref x]), (dl, zOb 8 [.int (iI (dm + 1)), .ref arr1, .int (iI ((d + 1 : Nat) : Int))]), (arr1, zR G 10 (lf (d + 1) (va_up (fun i => G.2 (1000 + ((dv i).toNat + 128))) d (G.2 (1000 + (z.toNat + 128)))))), (q5, zII G (2 ^ (d + 1)) (fun i => some (q5 + 1 + i)))] ++ (zRows G (2 ^ (d + 1)) (2 ^ (d + 1)) (fun i => q5 + 1 + i) F ++ [])) H9 → va_D (zA (fun a => a = g ∨ a = dl ∨ (a = da ∧ da ≠ G.2 12)) H0) ([(g, zOb 4 [.ref (G.2 (10 + kd)), .ref dl, .ref ml, .ref q5, .ref x]), (dl, zOb 8 [.int (iI (dm + 1)), .ref arr1, .int (iI ((d + 1 : Nat) : Int))]), (arr1, zR G 10 (lf (d + 1) (va_up (fun i => G.2 (1000 + ((dv i).toNat + 128))) d (G.2 (1000 + (z.toNat + 128)))))), (q5, zII G (2 ^ (d + 1)) (fun i => some (q5 + 1 + i)))] ++ (zRows G (2 ^ (d + 1)) (2 ^ (d + 1)) (fun i => q5 + 1 + i) F ++ [])) → va_S (zA (fun a => a = g ∨ a = dl ∨ (a = da ∧ da ≠ G.2 12)) H0) H0 H9 locs → lv_has ls 4 [(2, .int (iI ((i : Nat) : Int))), (0, .ref g), (1, .int (iI z))] → W pp l ee rm_m_X5_add ss mm args below meth cd H9 locs 18 282 Q (F0 mm 30 ls []) := by
    intro dlp8
    induction dlp8 using Nat.strongRecOn with
    | ind dlp8 ihlp8 =>
      intro i F hdlp8 hi hf H9 locs ls  hP hD hS hl
      refine lv_iload_n hx hb dX5_add_30 rfl (lv_at hl 0 rfl) ?_
      refine lv_aload_n hx hb dX5_add_31 rfl (lv_at hl 1 rfl) ?_
      refine z_go 18 282 (z_runV (As := []) (rest := [.int (iI ((i : Nat) : Int))]) hC hml hl.1 (m_X5_units_g hE H9 (hO.ext (zS_F hS) hMo) x g (G.2 (10 + kd)) dl ml q5 (d + 1) _ arr1 (dm + 1) (hP 0 _ rfl) ⟨hP 1 _ rfl, Or.inr ⟨by omega, hne2, hP 2 _ rfl⟩⟩ (by omega)) (lw_V q401 q298 q299 q74 q300) rfl nd_X5_units rfl (z_rv hC (ci := 4) rfl (hP 0 _ rfl) rfl) rfl (Nat.le_of_ble_eq_true rfl) ⟨Nat.le_of_ble_eq_true rfl, Nat.le_of_ble_eq_true rfl⟩ ⟨zfit (k := 0) (z := 18) rfl rfl (by omega), zfit (k := 0) (z := 282) rfl rfl (by omega)⟩ dX5_add_32) ⟨zad (k := 0) rfl (by omega), zad (k := 0) rfl (by omega)⟩ hS (fun _ z => z.elim) (fun r H10 locs hp hF hS1 => ?_)
      obtain ⟨_, rfl, rfl⟩ := hp
      have hP := zpk hP hF
      have hP : va_P G.1 zCl ([(g, zOb 4 [.ref (G.2 (10 + kd)), .ref dl, .ref ml, .ref q5, .ref x]), (dl, zOb 8 [.int (iI (dm + 1)), .ref arr1, .int (iI ((d + 1 : Nat) : Int))]), (arr1, zR G 10 (lf (d + 1) (va_up (fun i => G.2 (1000 + ((dv i).toNat + 128))) d (G.2 (1000 + (z.toNat + 128)))))), (q5, zII G (2 ^ (d + 1)) (fun i => some (q5 + 1 + i)))] ++ (zRows G (2 ^ (d + 1)) (2 ^ (d + 1)) (fun i => q5 + 1 + i) F ++ [])) H10 := hP
      have hD : va_D (zA (fun a => a = g ∨ a = dl ∨ (a = da ∧ da ≠ G.2 12)) H0) ([(g, zOb 4 [.ref (G.2 (10 + kd)), .ref dl, .ref ml, .ref q5, .ref x]), (dl, zOb 8 [.int (iI (dm + 1)), .ref arr1, .int (iI ((d + 1 : Nat) : Int))]), (arr1, zR G 10 (lf (d + 1) (va_up (fun i => G.2 (1000 + ((dv i).toNat + 128))) d (G.2 (1000 + (z.toNat + 128)))))), (q5, zII G (2 ^ (d + 1)) (fun i => some (q5 + 1 + i)))] ++ (zRows G (2 ^ (d + 1)) (2 ^ (d + 1)) (fun i => q5 + 1 + i) F ++ [])) := hD
      have hS := hS1
      refine z_cge (tgt := 95) hx hb dX5_add_35 (by decide) (by omega) (fun c11 => ?_) (fun c11 => ?_)
      · have ei : i = 2 ^ (d + 1) := by omega
        rw [ei] at hf
        exact z_vret hC hrt hlk hQ hS ⟨zle (z := 18) rfl (by omega), zle (z := 282) rfl (by omega)⟩ ⟨rfl, arr1, q5, F, hf, harr2, hne2, hq0q5, hP, hD⟩ dX5_add_95
      · refine lv_iconst (v := iI 0) hx hb dX5_add_38 rfl ?_
        refine lv_istore_n (lv' := [(3, .int (iI 0)), (2, .int (iI ((i : Nat) : Int))), (0, .ref g), (1, .int (iI z))]) hx hb dX5_add_39 rfl hl (by decide) rfl (fun ls hl => ?_)
        have lp12 : ∀ (dlp12 : Nat) (j : Nat) (F2 : Nat → Nat → Int), 2 ^ (d + 1) - j = dlp12 → (j ≤ 2 ^ (d + 1)) → (grD (2 ^ (d + 1)) (fun r c => sgK kd (va_up dv d z) (d + 1) r c % p) i j F2) → ∀ (H13 : Heap) (locs : List Loc) (ls : Array Slot), va_P G.1 zCl ([(g, zOb 4 [.ref (G.2 (10 + kd)), .ref dl, .ref ml, .ref q5, .ref x]), (dl, zOb 8 [.int (iI (dm + 1)), .ref arr1, .int (iI ((d + 1 : Nat) : Int))]), (arr1, zR G 10 (lf (d + 1) (va_up (fun i => G.2 (1000 + ((dv i).toNat + 128))) d (G.2 (1000 + (z.toNat + 128)))))), (q5, zII G (2 ^ (d + 1)) (fun i => some (q5 + 1 + i)))] ++ (zRows G (2 ^ (d + 1)) (2 ^ (d + 1)) (fun i => q5 + 1 + i) F2 ++ [])) H13 → va_D (zA (fun a => a = g ∨ a = dl ∨ (a = da ∧ da ≠ G.2 12)) H0) ([(g, zOb 4 [.ref (G.2 (10 + kd)), .ref dl, .ref ml, .ref q5, .ref x]), (dl, zOb 8 [.int (iI (dm + 1)), .ref arr1, .int (iI ((d + 1 : Nat) : Int))]), (arr1, zR G 10 (lf (d + 1) (va_up (fun i => G.2 (1000 + ((dv i).toNat + 128))) d (G.2 (1000 + (z.toNat + 128)))))), (q5, zII G (2 ^ (d + 1)) (fun i => some (q5 + 1 + i)))] ++ (zRows G (2 ^ (d + 1)) (2 ^ (d + 1)) (fun i => q5 + 1 + i) F2 ++ [])) → va_S (zA (fun a => a = g ∨ a = dl ∨ (a = da ∧ da ≠ G.2 12)) H0) H0 H13 locs → lv_has ls 4 [(3, .int (iI ((j : Nat) : Int))), (2, .int (iI ((i : Nat) : Int))), (0, .ref g), (1, .int (iI z))] → W pp l ee rm_m_X5_add ss mm args below meth cd H13 locs 18 282 Q (F0 mm 40 ls []) := by
          intro dlp12
          induction dlp12 using Nat.strongRecOn with
          | ind dlp12 ihlp12 =>
            intro j F2 hdlp12 hj hf2 H13 locs ls  hP hD hS hl
            refine lv_iload_n hx hb dX5_add_40 rfl (lv_at hl 0 rfl) ?_
            refine lv_aload_n hx hb dX5_add_41 rfl (lv_at hl 2 rfl) ?_
            refine z_go 18 282 (z_runV (As := []) (rest := [.int (iI ((j : Nat) : Int))]) hC hml hl.1 (m_X5_units_g hE H13 (hO.ext (zS_F hS) hMo) x g (G.2 (10 + kd)) dl ml q5 (d + 1) _ arr1 (dm + 1) (hP 0 _ rfl) ⟨hP 1 _ rfl, Or.inr ⟨by omega, hne2, hP 2 _ rfl⟩⟩ (by omega)) (lw_V q401 q298 q299 q74 q300) rfl nd_X5_units rfl (z_rv hC (ci := 4) rfl (hP 0 _ rfl) rfl) rfl (Nat.le_of_ble_eq_true rfl) ⟨Nat.le_of_ble_eq_true rfl, Nat.le_of_ble_eq_true rfl⟩ ⟨zfit (k := 0) (z := 18) rfl rfl (by omega), zfit (k := 0) (z := 282) rfl rfl (by omega)⟩ dX5_add_42) ⟨zad (k := 0) rfl (by omega), zad (k := 0) rfl (by omega)⟩ hS (fun _ z => z.elim) (fun r H14 locs hp hF hS1 => ?_)
            obtain ⟨_, rfl, rfl⟩ := hp
            have hP := zpk hP hF
            have hP : va_P G.1 zCl ([(g, zOb 4 [.ref (G.2 (10 + kd)), .ref dl, .ref ml, .ref q5, .ref x]), (dl, zOb 8 [.int (iI (dm + 1)), .ref arr1, .int (iI ((d + 1 : Nat) : Int))]), (arr1, zR G 10 (lf (d + 1) (va_up (fun i => G.2 (1000 + ((dv i).toNat + 128))) d (G.2 (1000 + (z.toNat + 128)))))), (q5, zII G (2 ^ (d + 1)) (fun i => some (q5 + 1 + i)))] ++ (zRows G (2 ^ (d + 1)) (2 ^ (d + 1)) (fun i => q5 + 1 + i) F2 ++ [])) H14 := hP
            have hD : va_D (zA (fun a => a = g ∨ a = dl ∨ (a = da ∧ da ≠ G.2 12)) H0) ([(g, zOb 4 [.ref (G.2 (10 + kd)), .ref dl, .ref ml, .ref q5, .ref x]), (dl, zOb 8 [.int (iI (dm + 1)), .ref arr1, .int (iI ((d + 1 : Nat) : Int))]), (arr1, zR G 10 (lf (d + 1) (va_up (fun i => G.2 (1000 + ((dv i).toNat + 128))) d (G.2 (1000 + (z.toNat + 128)))))), (q5, zII G (2 ^ (d + 1)) (fun i => some (q5 + 1 + i)))] ++ (zRows G (2 ^ (d + 1)) (2 ^ (d + 1)) (fun i => q5 + 1 + i) F2 ++ [])) := hD
            have hS := hS1
            refine z_cge (tgt := 89) hx hb dX5_add_45 (by decide) (by omega) (fun c15 => ?_) (fun c15 => ?_)
            · have ej : j = 2 ^ (d + 1) := by omega
              rw [ej] at hf2
              refine z_iinc (z := ((i + 1 : Nat) : Int)) (lv' := [(2, .int (iI ((i + 1 : Nat) : Int))), (3, .int (iI ((j : Nat) : Int))), (0, .ref g), (1, .int (iI z))]) hx hb dX5_add_89 hl (k := 1) rfl (by omega) (by decide) rfl (fun ls hl => ?_)
              refine lv_goto (tgt := 30) hx hb dX5_add_92 (by decide) ?_
              exact W.widen (by omega) (by omega) (ihlp8 (2 ^ (d + 1) - (i + 1)) (by omega) (i + 1) F2 rfl (by omega) (grD_row hf2) _ _ _  hP hD hS (lv_sub hl [0, 2, 3] rfl))
            · have hsi := sgK_in (dv := va_up dv d z) kd i j (show d + 1 ≤ 4 by omega) (fun k hk => ⟨(hdv2 k hk).1, by have := (hdv2 k hk).2; omega⟩)
              refine lv_aload_n hx hb dX5_add_48 rfl (lv_at hl 2 rfl) ?_
              refine z_get hC (k := 3) rfl in_X5 (hP 0 _ rfl) (by decide) q962 (fun _ h => h) rfl dX5_add_49 ?_
              refine lv_iload_n hx hb dX5_add_52 rfl (lv_at hl 1 rfl) ?_
              refine z_aald hC (hP 3 _ rfl) (k := i) rfl (by omega) (q := (q5 + 1 + i)) rfl dX5_add_53 ?_
              refine lv_iload_n hx hb dX5_add_54 rfl (lv_at hl 0 rfl) ?_
              refine lv_aload_n hx hb dX5_add_55 rfl (lv_at hl 2 rfl) ?_
              refine z_get hC (k := 4) rfl in_X5 (hP 0 _ rfl) (by decide) q965 (fun _ h => h) rfl dX5_add_56 ?_
              refine lv_aload_n hx hb dX5_add_59 rfl (lv_at hl 2 rfl) ?_
              refine z_get hC (k := 0) rfl in_X5 (hP 0 _ rfl) (by decide) q955 (fun _ h => h) rfl dX5_add_60 ?_
              refine lv_aload_n hx hb dX5_add_63 rfl (lv_at hl 2 rfl) ?_
              refine z_get hC (k := 1) rfl in_X5 (hP 0 _ rfl) (by decide) q958 (fun _ h => h) rfl dX5_add_64 ?_
              refine lv_aload_n hx hb dX5_add_67 rfl (lv_at hl 2 rfl) ?_
              refine z_get hC (k := 1) rfl in_X5 (hP 0 _ rfl) (by decide) q958 (fun _ h => h) rfl dX5_add_68 ?_
              refine z_go 18 282 (z_runV (As := []) (rest := [.ref dl, .ref (G.2 (10 + kd)), .ref x, .int (iI ((j : Nat) : Int)), .ref (q5 + 1 + i)]) hC hml hl.1 (m_J2_size hE H14 (hO.ext (zS_F hS) hMo) dl (d + 1) _ arr1 (dm + 1) ⟨hP 1 _ rfl, Or.inr ⟨by omega, hne2, hP 2 _ rfl⟩⟩) (lw_V q301 q230 q231 q65 q232) rfl nd_J2_size rfl (z_rv hC (ci := 8) rfl (hP 1 _ rfl) rfl) rfl (Nat.le_of_ble_eq_true rfl) ⟨Nat.le_of_ble_eq_true rfl, Nat.le_of_ble_eq_true rfl⟩ ⟨zfit (k := 0) (z := 18) rfl rfl (by omega), zfit (k := 0) (z := 282) rfl rfl (by omega)⟩ dX5_add_71) ⟨zad (k := 0) rfl (by omega), zad (k := 0) rfl (by omega)⟩ hS (fun _ z => z.elim) (fun r H16 locs hp hF hS1 => ?_)
              obtain ⟨_, rfl, rfl⟩ := hp
              have hP := zpk hP hF
              have hP : va_P G.1 zCl ([(g, zOb 4 [.ref (G.2 (10 + kd)), .ref dl, .ref ml, .ref q5, .ref x]), (dl, zOb 8 [.int (iI (dm + 1)), .ref arr1, .int (iI ((d + 1 : Nat) : Int))]), (arr1, zR G 10 (lf (d + 1) (va_up (fun i => G.2 (1000 + ((dv i).toNat + 128))) d (G.2 (1000 + (z.toNat + 128)))))), (q5, zII G (2 ^ (d + 1)) (fun i => some (q5 + 1 + i)))] ++ (zRows G (2 ^ (d + 1)) (2 ^ (d + 1)) (fun i => q5 + 1 + i) F2 ++ [])) H16 := hP
              have hD : va_D (zA (fun a => a = g ∨ a = dl ∨ (a = da ∧ da ≠ G.2 12)) H0) ([(g, zOb 4 [.ref (G.2 (10 + kd)), .ref dl, .ref ml, .ref q5, .ref x]), (dl, zOb 8 [.int (iI (dm + 1)), .ref arr1, .int (iI ((d + 1 : Nat) : Int))]), (arr1, zR G 10 (lf (d + 1) (va_up (fun i => G.2 (1000 + ((dv i).toNat + 128))) d (G.2 (1000 + (z.toNat + 128)))))), (q5, zII G (2 ^ (d + 1)) (fun i => some (q5 + 1 + i)))] ++ (zRows G (2 ^ (d + 1)) (2 ^ (d + 1)) (fun i => q5 + 1 + i) F2 ++ [])) := hD
              have hS := hS1
              rcases (show kd = 0 ∨ kd = 1 from by omega) with ekd | ekd
              · rcases (show d + 1 ≤ 2 ∨ 3 ≤ d + 1 from by omega) with ed | ed
                · rcases (show d + 1 = 1 ∨ d + 1 = 2 from by omega) with ed | ed
                  · refine z_top (b := 1) (by omega) ?_
                    refine lv_iload_n hx hb dX5_add_74 rfl (lv_at hl 1 rfl) ?_
                    refine lv_iload_n hx hb dX5_add_75 rfl (lv_at hl 0 rfl) ?_
                    refine z_go 18 282 (z_runAU (n := 4) (As := [.ref dl, .int (iI 1), .int (iI ((i : Nat) : Int)), .int (iI ((j : Nat) : Int))]) (rest := [.ref x, .int (iI ((j : Nat) : Int)), .ref (q5 + 1 + i)]) hC hml hl.1 (m_X10_sign_1 hE H16 (hO.ext (zS_F hS) hMo) kd dl (d + 1) (va_up dv d z) arr1 (dm + 1) i j ekd (zLs.congr ⟨hP 1 _ rfl, Or.inr ⟨by omega, hne2, hP 2 _ rfl⟩⟩ hcs) (fun k hk => ⟨(hdv2 k hk).1, by have := (hdv2 k hk).2; omega⟩) (by omega) ⟨by omega, by omega⟩) q1112 q1107 q1109 q1110 q1111  q1108 ⟨by decide +kernel, by decide +kernel, by decide +kernel⟩ rfl (z_k1 hE hC.w (hO.ext (zS_F hS) hMo) ekd) rfl (Nat.le_of_ble_eq_true rfl) ⟨Nat.le_of_ble_eq_true rfl, Nat.le_of_ble_eq_true rfl⟩ ⟨zfit (k := 0) (z := 18) rfl rfl (by omega), zfit (k := 0) (z := 282) rfl rfl (by omega)⟩ dX5_add_76) ⟨zad (k := 0) rfl (by omega), zad (k := 0) rfl (by omega)⟩ hS (fun _ z => z.elim) (fun r H17 locs hp hF hS1 => ?_)
                    obtain ⟨_, rfl, rfl⟩ := hp
                    have hP := zpk hP hF
                    have hP : va_P G.1 zCl ([(g, zOb 4 [.ref (G.2 (10 + kd)), .ref dl, .ref ml, .ref q5, .ref x]), (dl, zOb 8 [.int (iI (dm + 1)), .ref arr1, .int (iI ((d + 1 : Nat) : Int))]), (arr1, zR G 10 (lf (d + 1) (va_up (fun i => G.2 (1000 + ((dv i).toNat + 128))) d (G.2 (1000 + (z.toNat + 128)))))), (q5, zII G (2 ^ (d + 1)) (fun i => some (q5 + 1 + i)))] ++ (zRows G (2 ^ (d + 1)) (2 ^ (d + 1)) (fun i => q5 + 1 + i) F2 ++ [])) H17 := hP
                    have hD : va_D (zA (fun a => a = g ∨ a = dl ∨ (a = da ∧ da ≠ G.2 12)) H0) ([(g, zOb 4 [.ref (G.2 (10 + kd)), .ref dl, .ref ml, .ref q5, .ref x]), (dl, zOb 8 [.int (iI (dm + 1)), .ref arr1, .int (iI ((d + 1 : Nat) : Int))]), (arr1, zR G 10 (lf (d + 1) (va_up (fun i => G.2 (1000 + ((dv i).toNat + 128))) d (G.2 (1000 + (z.toNat + 128)))))), (q5, zII G (2 ^ (d + 1)) (fun i => some (q5 + 1 + i)))] ++ (zRows G (2 ^ (d + 1)) (2 ^ (d + 1)) (fun i => q5 + 1 + i) F2 ++ [])) := hD
                    have hS := hS1
                    have es : sgD (va_up dv d z) 1 i j = sgK kd (va_up dv d z) (d + 1) i j := by unfold sgK; rw [if_pos ekd, show d + 1 = 1 by omega]
                    refine z_top (b := sgK kd (va_up dv d z) (d + 1) i j) (es) ?_
                    refine z_go 18 282 (z_runVN (As := [.int (iI (sgK kd (va_up dv d z) (d + 1) i j))]) (rest := [.int (iI ((j : Nat) : Int)), .ref (q5 + 1 + i)]) hC hml hl.1 (m_X1_mod hE H17 (hO.ext (zS_F hS) hMo) x la le dr p kn sm (sgK kd (va_up dv d z) (d + 1) i j) (zo hS hx0 hnx) hp7 (by omega)) q355 q62 q419 q354 qs5 nd_X1_mod rfl (z_rv hC (ci := 0) rfl (zo hS hx0 hnx) rfl) rfl (Nat.le_of_ble_eq_true rfl) ⟨Nat.le_of_ble_eq_true rfl, Nat.le_of_ble_eq_true rfl⟩ ⟨zfit (k := 0) (z := 18) rfl rfl (by omega), zfit (k := 0) (z := 282) rfl rfl (by omega)⟩ dX5_add_79) ⟨zad (k := 0) rfl (by omega), zad (k := 0) rfl (by omega)⟩ hS (fun _ z => z.elim) (fun r H18 locs hp hF hS1 => ?_)
                    obtain ⟨_, rfl, rfl⟩ := hp
                    have hP := zpk hP hF
                    have hP : va_P G.1 zCl ([(g, zOb 4 [.ref (G.2 (10 + kd)), .ref dl, .ref ml, .ref q5, .ref x]), (dl, zOb 8 [.int (iI (dm + 1)), .ref arr1, .int (iI ((d + 1 : Nat) : Int))]), (arr1, zR G 10 (lf (d + 1) (va_up (fun i => G.2 (1000 + ((dv i).toNat + 128))) d (G.2 (1000 + (z.toNat + 128)))))), (q5, zII G (2 ^ (d + 1)) (fun i => some (q5 + 1 + i)))] ++ (zRows G (2 ^ (d + 1)) (2 ^ (d + 1)) (fun i => q5 + 1 + i) F2 ++ [])) H18 := hP
                    have hD : va_D (zA (fun a => a = g ∨ a = dl ∨ (a = da ∧ da ≠ G.2 12)) H0) ([(g, zOb 4 [.ref (G.2 (10 + kd)), .ref dl, .ref ml, .ref q5, .ref x]), (dl, zOb 8 [.int (iI (dm + 1)), .ref arr1, .int (iI ((d + 1 : Nat) : Int))]), (arr1, zR G 10 (lf (d + 1) (va_up (fun i => G.2 (1000 + ((dv i).toNat + 128))) d (G.2 (1000 + (z.toNat + 128)))))), (q5, zII G (2 ^ (d + 1)) (fun i => some (q5 + 1 + i)))] ++ (zRows G (2 ^ (d + 1)) (2 ^ (d + 1)) (fun i => q5 + 1 + i) F2 ++ [])) := hD
                    have hS := hS1
                    refine z_iast hC hP hD hS (4 + i) (k := j) (zR_at (L := 4) rfl (by omega)) rfl (by omega) (ws' := [(g, zOb 4 [.ref (G.2 (10 + kd)), .ref dl, .ref ml, .ref q5, .ref x]), (dl, zOb 8 [.int (iI (dm + 1)), .ref arr1, .int (iI ((d + 1 : Nat) : Int))]), (arr1, zR G 10 (lf (d + 1) (va_up (fun i => G.2 (1000 + ((dv i).toNat + 128))) d (G.2 (1000 + (z.toNat + 128)))))), (q5, zII G (2 ^ (d + 1)) (fun i => some (q5 + 1 + i)))] ++ (zRows G (2 ^ (d + 1)) (2 ^ (d + 1)) (fun i => q5 + 1 + i) (fun jj => if jj = i then va_up (F2 i) j ((sgK kd (va_up dv d z) (d + 1) i j) % p) else F2 jj) ++ [])) (zR_set (L := 4) rfl (by omega)) dX5_add_82 (fun H20 locs hP hD hS => ?_)
                    refine z_iinc (z := ((j + 1 : Nat) : Int)) (lv' := [(3, .int (iI ((j + 1 : Nat) : Int))), (2, .int (iI ((i : Nat) : Int))), (0, .ref g), (1, .int (iI z))]) hx hb dX5_add_83 hl (k := 0) rfl (by omega) (by decide) rfl (fun ls hl => ?_)
                    refine lv_goto (tgt := 40) hx hb dX5_add_86 (by decide) ?_
                    exact W.widen (by omega) (by omega) (ihlp12 (2 ^ (d + 1) - (j + 1)) (by omega) (j + 1) (fun jj => if jj = i then va_up (F2 i) j ((sgK kd (va_up dv d z) (d + 1) i j) % p) else F2 jj) rfl (by omega) (grD_step hf2 rfl) _ _ _  hP hD hS hl)
                  · refine z_top (b := 2) (by omega) ?_
                    refine lv_iload_n hx hb dX5_add_74 rfl (lv_at hl 1 rfl) ?_
                    refine lv_iload_n hx hb dX5_add_75 rfl (lv_at hl 0 rfl) ?_
                    refine z_go 18 282 (z_runAU (n := 4) (As := [.ref dl, .int (iI 2), .int (iI ((i : Nat) : Int)), .int (iI ((j : Nat) : Int))]) (rest := [.ref x, .int (iI ((j : Nat) : Int)), .ref (q5 + 1 + i)]) hC hml hl.1 (m_X10_sign_2 hE H16 (hO.ext (zS_F hS) hMo) kd dl (d + 1) (va_up dv d z) arr1 (dm + 1) i j ekd (zLs.congr ⟨hP 1 _ rfl, Or.inr ⟨by omega, hne2, hP 2 _ rfl⟩⟩ hcs) (fun k hk => ⟨(hdv2 k hk).1, by have := (hdv2 k hk).2; omega⟩) (by omega) ⟨by omega, by omega⟩) q1112 q1107 q1109 q1110 q1111  q1108 ⟨by decide +kernel, by decide +kernel, by decide +kernel⟩ rfl (z_k1 hE hC.w (hO.ext (zS_F hS) hMo) ekd) rfl (Nat.le_of_ble_eq_true rfl) ⟨Nat.le_of_ble_eq_true rfl, Nat.le_of_ble_eq_true rfl⟩ ⟨zfit (k := 0) (z := 18) rfl rfl (by omega), zfit (k := 0) (z := 282) rfl rfl (by omega)⟩ dX5_add_76) ⟨zad (k := 0) rfl (by omega), zad (k := 0) rfl (by omega)⟩ hS (fun _ z => z.elim) (fun r H21 locs hp hF hS1 => ?_)
                    obtain ⟨_, rfl, rfl⟩ := hp
                    have hP := zpk hP hF
                    have hP : va_P G.1 zCl ([(g, zOb 4 [.ref (G.2 (10 + kd)), .ref dl, .ref ml, .ref q5, .ref x]), (dl, zOb 8 [.int (iI (dm + 1)), .ref arr1, .int (iI ((d + 1 : Nat) : Int))]), (arr1, zR G 10 (lf (d + 1) (va_up (fun i => G.2 (1000 + ((dv i).toNat + 128))) d (G.2 (1000 + (z.toNat + 128)))))), (q5, zII G (2 ^ (d + 1)) (fun i => some (q5 + 1 + i)))] ++ (zRows G (2 ^ (d + 1)) (2 ^ (d + 1)) (fun i => q5 + 1 + i) F2 ++ [])) H21 := hP
                    have hD : va_D (zA (fun a => a = g ∨ a = dl ∨ (a = da ∧ da ≠ G.2 12)) H0) ([(g, zOb 4 [.ref (G.2 (10 + kd)), .ref dl, .ref ml, .ref q5, .ref x]), (dl, zOb 8 [.int (iI (dm + 1)), .ref arr1, .int (iI ((d + 1 : Nat) : Int))]), (arr1, zR G 10 (lf (d + 1) (va_up (fun i => G.2 (1000 + ((dv i).toNat + 128))) d (G.2 (1000 + (z.toNat + 128)))))), (q5, zII G (2 ^ (d + 1)) (fun i => some (q5 + 1 + i)))] ++ (zRows G (2 ^ (d + 1)) (2 ^ (d + 1)) (fun i => q5 + 1 + i) F2 ++ [])) := hD
                    have hS := hS1
                    have es : sgD (va_up dv d z) 2 i j = sgK kd (va_up dv d z) (d + 1) i j := by unfold sgK; rw [if_pos ekd, show d + 1 = 2 by omega]
                    refine z_top (b := sgK kd (va_up dv d z) (d + 1) i j) (es) ?_
                    refine z_go 18 282 (z_runVN (As := [.int (iI (sgK kd (va_up dv d z) (d + 1) i j))]) (rest := [.int (iI ((j : Nat) : Int)), .ref (q5 + 1 + i)]) hC hml hl.1 (m_X1_mod hE H21 (hO.ext (zS_F hS) hMo) x la le dr p kn sm (sgK kd (va_up dv d z) (d + 1) i j) (zo hS hx0 hnx) hp7 (by omega)) q355 q62 q419 q354 qs5 nd_X1_mod rfl (z_rv hC (ci := 0) rfl (zo hS hx0 hnx) rfl) rfl (Nat.le_of_ble_eq_true rfl) ⟨Nat.le_of_ble_eq_true rfl, Nat.le_of_ble_eq_true rfl⟩ ⟨zfit (k := 0) (z := 18) rfl rfl (by omega), zfit (k := 0) (z := 282) rfl rfl (by omega)⟩ dX5_add_79) ⟨zad (k := 0) rfl (by omega), zad (k := 0) rfl (by omega)⟩ hS (fun _ z => z.elim) (fun r H22 locs hp hF hS1 => ?_)
                    obtain ⟨_, rfl, rfl⟩ := hp
                    have hP := zpk hP hF
                    have hP : va_P G.1 zCl ([(g, zOb 4 [.ref (G.2 (10 + kd)), .ref dl, .ref ml, .ref q5, .ref x]), (dl, zOb 8 [.int (iI (dm + 1)), .ref arr1, .int (iI ((d + 1 : Nat) : Int))]), (arr1, zR G 10 (lf (d + 1) (va_up (fun i => G.2 (1000 + ((dv i).toNat + 128))) d (G.2 (1000 + (z.toNat + 128)))))), (q5, zII G (2 ^ (d + 1)) (fun i => some (q5 + 1 + i)))] ++ (zRows G (2 ^ (d + 1)) (2 ^ (d + 1)) (fun i => q5 + 1 + i) F2 ++ [])) H22 := hP
                    have hD : va_D (zA (fun a => a = g ∨ a = dl ∨ (a = da ∧ da ≠ G.2 12)) H0) ([(g, zOb 4 [.ref (G.2 (10 + kd)), .ref dl, .ref ml, .ref q5, .ref x]), (dl, zOb 8 [.int (iI (dm + 1)), .ref arr1, .int (iI ((d + 1 : Nat) : Int))]), (arr1, zR G 10 (lf (d + 1) (va_up (fun i => G.2 (1000 + ((dv i).toNat + 128))) d (G.2 (1000 + (z.toNat + 128)))))), (q5, zII G (2 ^ (d + 1)) (fun i => some (q5 + 1 + i)))] ++ (zRows G (2 ^ (d + 1)) (2 ^ (d + 1)) (fun i => q5 + 1 + i) F2 ++ [])) := hD
                    have hS := hS1
                    refine z_iast hC hP hD hS (4 + i) (k := j) (zR_at (L := 4) rfl (by omega)) rfl (by omega) (ws' := [(g, zOb 4 [.ref (G.2 (10 + kd)), .ref dl, .ref ml, .ref q5, .ref x]), (dl, zOb 8 [.int (iI (dm + 1)), .ref arr1, .int (iI ((d + 1 : Nat) : Int))]), (arr1, zR G 10 (lf (d + 1) (va_up (fun i => G.2 (1000 + ((dv i).toNat + 128))) d (G.2 (1000 + (z.toNat + 128)))))), (q5, zII G (2 ^ (d + 1)) (fun i => some (q5 + 1 + i)))] ++ (zRows G (2 ^ (d + 1)) (2 ^ (d + 1)) (fun i => q5 + 1 + i) (fun jj => if jj = i then va_up (F2 i) j ((sgK kd (va_up dv d z) (d + 1) i j) % p) else F2 jj) ++ [])) (zR_set (L := 4) rfl (by omega)) dX5_add_82 (fun H24 locs hP hD hS => ?_)
                    refine z_iinc (z := ((j + 1 : Nat) : Int)) (lv' := [(3, .int (iI ((j + 1 : Nat) : Int))), (2, .int (iI ((i : Nat) : Int))), (0, .ref g), (1, .int (iI z))]) hx hb dX5_add_83 hl (k := 0) rfl (by omega) (by decide) rfl (fun ls hl => ?_)
                    refine lv_goto (tgt := 40) hx hb dX5_add_86 (by decide) ?_
                    exact W.widen (by omega) (by omega) (ihlp12 (2 ^ (d + 1) - (j + 1)) (by omega) (j + 1) (fun jj => if jj = i then va_up (F2 i) j ((sgK kd (va_up dv d z) (d + 1) i j) % p) else F2 jj) rfl (by omega) (grD_step hf2 rfl) _ _ _  hP hD hS hl)
                · rcases (show d + 1 = 3 ∨ d + 1 = 4 from by omega) with ed | ed
                  · refine z_top (b := 3) (by omega) ?_
                    refine lv_iload_n hx hb dX5_add_74 rfl (lv_at hl 1 rfl) ?_
                    refine lv_iload_n hx hb dX5_add_75 rfl (lv_at hl 0 rfl) ?_
                    refine z_go 18 282 (z_runAU (n := 4) (As := [.ref dl, .int (iI 3), .int (iI ((i : Nat) : Int)), .int (iI ((j : Nat) : Int))]) (rest := [.ref x, .int (iI ((j : Nat) : Int)), .ref (q5 + 1 + i)]) hC hml hl.1 (m_X10_sign_3 hE H16 (hO.ext (zS_F hS) hMo) kd dl (d + 1) (va_up dv d z) arr1 (dm + 1) i j ekd (zLs.congr ⟨hP 1 _ rfl, Or.inr ⟨by omega, hne2, hP 2 _ rfl⟩⟩ hcs) (fun k hk => ⟨(hdv2 k hk).1, by have := (hdv2 k hk).2; omega⟩) (by omega) ⟨by omega, by omega⟩) q1112 q1107 q1109 q1110 q1111  q1108 ⟨by decide +kernel, by decide +kernel, by decide +kernel⟩ rfl (z_k1 hE hC.w (hO.ext (zS_F hS) hMo) ekd) rfl (Nat.le_of_ble_eq_true rfl) ⟨Nat.le_of_ble_eq_true rfl, Nat.le_of_ble_eq_true rfl⟩ ⟨zfit (k := 0) (z := 18) rfl rfl (by omega), zfit (k := 0) (z := 282) rfl rfl (by omega)⟩ dX5_add_76) ⟨zad (k := 0) rfl (by omega), zad (k := 0) rfl (by omega)⟩ hS (fun _ z => z.elim) (fun r H25 locs hp hF hS1 => ?_)
                    obtain ⟨_, rfl, rfl⟩ := hp
                    have hP := zpk hP hF
                    have hP : va_P G.1 zCl ([(g, zOb 4 [.ref (G.2 (10 + kd)), .ref dl, .ref ml, .ref q5, .ref x]), (dl, zOb 8 [.int (iI (dm + 1)), .ref arr1, .int (iI ((d + 1 : Nat) : Int))]), (arr1, zR G 10 (lf (d + 1) (va_up (fun i => G.2 (1000 + ((dv i).toNat + 128))) d (G.2 (1000 + (z.toNat + 128)))))), (q5, zII G (2 ^ (d + 1)) (fun i => some (q5 + 1 + i)))] ++ (zRows G (2 ^ (d + 1)) (2 ^ (d + 1)) (fun i => q5 + 1 + i) F2 ++ [])) H25 := hP
                    have hD : va_D (zA (fun a => a = g ∨ a = dl ∨ (a = da ∧ da ≠ G.2 12)) H0) ([(g, zOb 4 [.ref (G.2 (10 + kd)), .ref dl, .ref ml, .ref q5, .ref x]), (dl, zOb 8 [.int (iI (dm + 1)), .ref arr1, .int (iI ((d + 1 : Nat) : Int))]), (arr1, zR G 10 (lf (d + 1) (va_up (fun i => G.2 (1000 + ((dv i).toNat + 128))) d (G.2 (1000 + (z.toNat + 128)))))), (q5, zII G (2 ^ (d + 1)) (fun i => some (q5 + 1 + i)))] ++ (zRows G (2 ^ (d + 1)) (2 ^ (d + 1)) (fun i => q5 + 1 + i) F2 ++ [])) := hD
                    have hS := hS1
                    have es : sgD (va_up dv d z) 3 i j = sgK kd (va_up dv d z) (d + 1) i j := by unfold sgK; rw [if_pos ekd, show d + 1 = 3 by omega]
                    refine z_top (b := sgK kd (va_up dv d z) (d + 1) i j) (es) ?_
                    refine z_go 18 282 (z_runVN (As := [.int (iI (sgK kd (va_up dv d z) (d + 1) i j))]) (rest := [.int (iI ((j : Nat) : Int)), .ref (q5 + 1 + i)]) hC hml hl.1 (m_X1_mod hE H25 (hO.ext (zS_F hS) hMo) x la le dr p kn sm (sgK kd (va_up dv d z) (d + 1) i j) (zo hS hx0 hnx) hp7 (by omega)) q355 q62 q419 q354 qs5 nd_X1_mod rfl (z_rv hC (ci := 0) rfl (zo hS hx0 hnx) rfl) rfl (Nat.le_of_ble_eq_true rfl) ⟨Nat.le_of_ble_eq_true rfl, Nat.le_of_ble_eq_true rfl⟩ ⟨zfit (k := 0) (z := 18) rfl rfl (by omega), zfit (k := 0) (z := 282) rfl rfl (by omega)⟩ dX5_add_79) ⟨zad (k := 0) rfl (by omega), zad (k := 0) rfl (by omega)⟩ hS (fun _ z => z.elim) (fun r H26 locs hp hF hS1 => ?_)
                    obtain ⟨_, rfl, rfl⟩ := hp
                    have hP := zpk hP hF
                    have hP : va_P G.1 zCl ([(g, zOb 4 [.ref (G.2 (10 + kd)), .ref dl, .ref ml, .ref q5, .ref x]), (dl, zOb 8 [.int (iI (dm + 1)), .ref arr1, .int (iI ((d + 1 : Nat) : Int))]), (arr1, zR G 10 (lf (d + 1) (va_up (fun i => G.2 (1000 + ((dv i).toNat + 128))) d (G.2 (1000 + (z.toNat + 128)))))), (q5, zII G (2 ^ (d + 1)) (fun i => some (q5 + 1 + i)))] ++ (zRows G (2 ^ (d + 1)) (2 ^ (d + 1)) (fun i => q5 + 1 + i) F2 ++ [])) H26 := hP
                    have hD : va_D (zA (fun a => a = g ∨ a = dl ∨ (a = da ∧ da ≠ G.2 12)) H0) ([(g, zOb 4 [.ref (G.2 (10 + kd)), .ref dl, .ref ml, .ref q5, .ref x]), (dl, zOb 8 [.int (iI (dm + 1)), .ref arr1, .int (iI ((d + 1 : Nat) : Int))]), (arr1, zR G 10 (lf (d + 1) (va_up (fun i => G.2 (1000 + ((dv i).toNat + 128))) d (G.2 (1000 + (z.toNat + 128)))))), (q5, zII G (2 ^ (d + 1)) (fun i => some (q5 + 1 + i)))] ++ (zRows G (2 ^ (d + 1)) (2 ^ (d + 1)) (fun i => q5 + 1 + i) F2 ++ [])) := hD
                    have hS := hS1
                    refine z_iast hC hP hD hS (4 + i) (k := j) (zR_at (L := 4) rfl (by omega)) rfl (by omega) (ws' := [(g, zOb 4 [.ref (G.2 (10 + kd)), .ref dl, .ref ml, .ref q5, .ref x]), (dl, zOb 8 [.int (iI (dm + 1)), .ref arr1, .int (iI ((d + 1 : Nat) : Int))]), (arr1, zR G 10 (lf (d + 1) (va_up (fun i => G.2 (1000 + ((dv i).toNat + 128))) d (G.2 (1000 + (z.toNat + 128)))))), (q5, zII G (2 ^ (d + 1)) (fun i => some (q5 + 1 + i)))] ++ (zRows G (2 ^ (d + 1)) (2 ^ (d + 1)) (fun i => q5 + 1 + i) (fun jj => if jj = i then va_up (F2 i) j ((sgK kd (va_up dv d z) (d + 1) i j) % p) else F2 jj) ++ [])) (zR_set (L := 4) rfl (by omega)) dX5_add_82 (fun H28 locs hP hD hS => ?_)
                    refine z_iinc (z := ((j + 1 : Nat) : Int)) (lv' := [(3, .int (iI ((j + 1 : Nat) : Int))), (2, .int (iI ((i : Nat) : Int))), (0, .ref g), (1, .int (iI z))]) hx hb dX5_add_83 hl (k := 0) rfl (by omega) (by decide) rfl (fun ls hl => ?_)
                    refine lv_goto (tgt := 40) hx hb dX5_add_86 (by decide) ?_
                    exact W.widen (by omega) (by omega) (ihlp12 (2 ^ (d + 1) - (j + 1)) (by omega) (j + 1) (fun jj => if jj = i then va_up (F2 i) j ((sgK kd (va_up dv d z) (d + 1) i j) % p) else F2 jj) rfl (by omega) (grD_step hf2 rfl) _ _ _  hP hD hS hl)
                  · refine z_top (b := 4) (by omega) ?_
                    refine lv_iload_n hx hb dX5_add_74 rfl (lv_at hl 1 rfl) ?_
                    refine lv_iload_n hx hb dX5_add_75 rfl (lv_at hl 0 rfl) ?_
                    refine z_go 18 282 (z_runAU (n := 4) (As := [.ref dl, .int (iI 4), .int (iI ((i : Nat) : Int)), .int (iI ((j : Nat) : Int))]) (rest := [.ref x, .int (iI ((j : Nat) : Int)), .ref (q5 + 1 + i)]) hC hml hl.1 (m_X10_sign_4 hE H16 (hO.ext (zS_F hS) hMo) kd dl (d + 1) (va_up dv d z) arr1 (dm + 1) i j ekd (zLs.congr ⟨hP 1 _ rfl, Or.inr ⟨by omega, hne2, hP 2 _ rfl⟩⟩ hcs) (fun k hk => ⟨(hdv2 k hk).1, by have := (hdv2 k hk).2; omega⟩) (by omega) ⟨by omega, by omega⟩) q1112 q1107 q1109 q1110 q1111  q1108 ⟨by decide +kernel, by decide +kernel, by decide +kernel⟩ rfl (z_k1 hE hC.w (hO.ext (zS_F hS) hMo) ekd) rfl (Nat.le_of_ble_eq_true rfl) ⟨Nat.le_of_ble_eq_true rfl, Nat.le_of_ble_eq_true rfl⟩ ⟨zfit (k := 0) (z := 18) rfl rfl (by omega), zfit (k := 0) (z := 282) rfl rfl (by omega)⟩ dX5_add_76) ⟨zad (k := 0) rfl (by omega), zad (k := 0) rfl (by omega)⟩ hS (fun _ z => z.elim) (fun r H29 locs hp hF hS1 => ?_)
                    obtain ⟨_, rfl, rfl⟩ := hp
                    have hP := zpk hP hF
                    have hP : va_P G.1 zCl ([(g, zOb 4 [.ref (G.2 (10 + kd)), .ref dl, .ref ml, .ref q5, .ref x]), (dl, zOb 8 [.int (iI (dm + 1)), .ref arr1, .int (iI ((d + 1 : Nat) : Int))]), (arr1, zR G 10 (lf (d + 1) (va_up (fun i => G.2 (1000 + ((dv i).toNat + 128))) d (G.2 (1000 + (z.toNat + 128)))))), (q5, zII G (2 ^ (d + 1)) (fun i => some (q5 + 1 + i)))] ++ (zRows G (2 ^ (d + 1)) (2 ^ (d + 1)) (fun i => q5 + 1 + i) F2 ++ [])) H29 := hP
                    have hD : va_D (zA (fun a => a = g ∨ a = dl ∨ (a = da ∧ da ≠ G.2 12)) H0) ([(g, zOb 4 [.ref (G.2 (10 + kd)), .ref dl, .ref ml, .ref q5, .ref x]), (dl, zOb 8 [.int (iI (dm + 1)), .ref arr1, .int (iI ((d + 1 : Nat) : Int))]), (arr1, zR G 10 (lf (d + 1) (va_up (fun i => G.2 (1000 + ((dv i).toNat + 128))) d (G.2 (1000 + (z.toNat + 128)))))), (q5, zII G (2 ^ (d + 1)) (fun i => some (q5 + 1 + i)))] ++ (zRows G (2 ^ (d + 1)) (2 ^ (d + 1)) (fun i => q5 + 1 + i) F2 ++ [])) := hD
                    have hS := hS1
                    have es : sgD (va_up dv d z) 4 i j = sgK kd (va_up dv d z) (d + 1) i j := by unfold sgK; rw [if_pos ekd, show d + 1 = 4 by omega]
                    refine z_top (b := sgK kd (va_up dv d z) (d + 1) i j) (es) ?_
                    refine z_go 18 282 (z_runVN (As := [.int (iI (sgK kd (va_up dv d z) (d + 1) i j))]) (rest := [.int (iI ((j : Nat) : Int)), .ref (q5 + 1 + i)]) hC hml hl.1 (m_X1_mod hE H29 (hO.ext (zS_F hS) hMo) x la le dr p kn sm (sgK kd (va_up dv d z) (d + 1) i j) (zo hS hx0 hnx) hp7 (by omega)) q355 q62 q419 q354 qs5 nd_X1_mod rfl (z_rv hC (ci := 0) rfl (zo hS hx0 hnx) rfl) rfl (Nat.le_of_ble_eq_true rfl) ⟨Nat.le_of_ble_eq_true rfl, Nat.le_of_ble_eq_true rfl⟩ ⟨zfit (k := 0) (z := 18) rfl rfl (by omega), zfit (k := 0) (z := 282) rfl rfl (by omega)⟩ dX5_add_79) ⟨zad (k := 0) rfl (by omega), zad (k := 0) rfl (by omega)⟩ hS (fun _ z => z.elim) (fun r H30 locs hp hF hS1 => ?_)
                    obtain ⟨_, rfl, rfl⟩ := hp
                    have hP := zpk hP hF
                    have hP : va_P G.1 zCl ([(g, zOb 4 [.ref (G.2 (10 + kd)), .ref dl, .ref ml, .ref q5, .ref x]), (dl, zOb 8 [.int (iI (dm + 1)), .ref arr1, .int (iI ((d + 1 : Nat) : Int))]), (arr1, zR G 10 (lf (d + 1) (va_up (fun i => G.2 (1000 + ((dv i).toNat + 128))) d (G.2 (1000 + (z.toNat + 128)))))), (q5, zII G (2 ^ (d + 1)) (fun i => some (q5 + 1 + i)))] ++ (zRows G (2 ^ (d + 1)) (2 ^ (d + 1)) (fun i => q5 + 1 + i) F2 ++ [])) H30 := hP
                    have hD : va_D (zA (fun a => a = g ∨ a = dl ∨ (a = da ∧ da ≠ G.2 12)) H0) ([(g, zOb 4 [.ref (G.2 (10 + kd)), .ref dl, .ref ml, .ref q5, .ref x]), (dl, zOb 8 [.int (iI (dm + 1)), .ref arr1, .int (iI ((d + 1 : Nat) : Int))]), (arr1, zR G 10 (lf (d + 1) (va_up (fun i => G.2 (1000 + ((dv i).toNat + 128))) d (G.2 (1000 + (z.toNat + 128)))))), (q5, zII G (2 ^ (d + 1)) (fun i => some (q5 + 1 + i)))] ++ (zRows G (2 ^ (d + 1)) (2 ^ (d + 1)) (fun i => q5 + 1 + i) F2 ++ [])) := hD
                    have hS := hS1
                    refine z_iast hC hP hD hS (4 + i) (k := j) (zR_at (L := 4) rfl (by omega)) rfl (by omega) (ws' := [(g, zOb 4 [.ref (G.2 (10 + kd)), .ref dl, .ref ml, .ref q5, .ref x]), (dl, zOb 8 [.int (iI (dm + 1)), .ref arr1, .int (iI ((d + 1 : Nat) : Int))]), (arr1, zR G 10 (lf (d + 1) (va_up (fun i => G.2 (1000 + ((dv i).toNat + 128))) d (G.2 (1000 + (z.toNat + 128)))))), (q5, zII G (2 ^ (d + 1)) (fun i => some (q5 + 1 + i)))] ++ (zRows G (2 ^ (d + 1)) (2 ^ (d + 1)) (fun i => q5 + 1 + i) (fun jj => if jj = i then va_up (F2 i) j ((sgK kd (va_up dv d z) (d + 1) i j) % p) else F2 jj) ++ [])) (zR_set (L := 4) rfl (by omega)) dX5_add_82 (fun H32 locs hP hD hS => ?_)
                    refine z_iinc (z := ((j + 1 : Nat) : Int)) (lv' := [(3, .int (iI ((j + 1 : Nat) : Int))), (2, .int (iI ((i : Nat) : Int))), (0, .ref g), (1, .int (iI z))]) hx hb dX5_add_83 hl (k := 0) rfl (by omega) (by decide) rfl (fun ls hl => ?_)
                    refine lv_goto (tgt := 40) hx hb dX5_add_86 (by decide) ?_
                    exact W.widen (by omega) (by omega) (ihlp12 (2 ^ (d + 1) - (j + 1)) (by omega) (j + 1) (fun jj => if jj = i then va_up (F2 i) j ((sgK kd (va_up dv d z) (d + 1) i j) % p) else F2 jj) rfl (by omega) (grD_step hf2 rfl) _ _ _  hP hD hS hl)
              · refine lv_iload_n hx hb dX5_add_74 rfl (lv_at hl 1 rfl) ?_
                refine lv_iload_n hx hb dX5_add_75 rfl (lv_at hl 0 rfl) ?_
                refine z_go 18 282 (z_runAU (n := 4) (As := [.ref dl, .int (iI ((d + 1 : Nat) : Int)), .int (iI ((i : Nat) : Int)), .int (iI ((j : Nat) : Int))]) (rest := [.ref x, .int (iI ((j : Nat) : Int)), .ref (q5 + 1 + i)]) hC hml hl.1 (m_X11_sign hE H16 (hO.ext (zS_F hS) hMo) kd dl (d + 1) (va_up dv d z) arr1 (dm + 1) (d + 1) i j ekd (zLs.congr ⟨hP 1 _ rfl, Or.inr ⟨by omega, hne2, hP 2 _ rfl⟩⟩ hcs) (fun k hk => ⟨(hdv2 k hk).1, by have := (hdv2 k hk).2; omega⟩) ⟨Nat.le_refl _, by omega⟩ ⟨by omega, by omega⟩) q1120 q1107 q1109 q1118 q1119  q1108 ⟨by decide +kernel, by decide +kernel, by decide +kernel⟩ rfl (z_k2 hE hC.w (hO.ext (zS_F hS) hMo) ekd) rfl (Nat.le_of_ble_eq_true rfl) ⟨Nat.le_of_ble_eq_true rfl, Nat.le_of_ble_eq_true rfl⟩ ⟨zfit (k := 0) (z := 18) rfl rfl (by omega), zfit (k := 0) (z := 282) rfl rfl (by omega)⟩ dX5_add_76) ⟨zad (k := 0) rfl (by omega), zad (k := 0) rfl (by omega)⟩ hS (fun _ z => z.elim) (fun r H33 locs hp hF hS1 => ?_)
                obtain ⟨_, rfl, rfl⟩ := hp
                have hP := zpk hP hF
                have hP : va_P G.1 zCl ([(g, zOb 4 [.ref (G.2 (10 + kd)), .ref dl, .ref ml, .ref q5, .ref x]), (dl, zOb 8 [.int (iI (dm + 1)), .ref arr1, .int (iI ((d + 1 : Nat) : Int))]), (arr1, zR G 10 (lf (d + 1) (va_up (fun i => G.2 (1000 + ((dv i).toNat + 128))) d (G.2 (1000 + (z.toNat + 128)))))), (q5, zII G (2 ^ (d + 1)) (fun i => some (q5 + 1 + i)))] ++ (zRows G (2 ^ (d + 1)) (2 ^ (d + 1)) (fun i => q5 + 1 + i) F2 ++ [])) H33 := hP
                have hD : va_D (zA (fun a => a = g ∨ a = dl ∨ (a = da ∧ da ≠ G.2 12)) H0) ([(g, zOb 4 [.ref (G.2 (10 + kd)), .ref dl, .ref ml, .ref q5, .ref x]), (dl, zOb 8 [.int (iI (dm + 1)), .ref arr1, .int (iI ((d + 1 : Nat) : Int))]), (arr1, zR G 10 (lf (d + 1) (va_up (fun i => G.2 (1000 + ((dv i).toNat + 128))) d (G.2 (1000 + (z.toNat + 128)))))), (q5, zII G (2 ^ (d + 1)) (fun i => some (q5 + 1 + i)))] ++ (zRows G (2 ^ (d + 1)) (2 ^ (d + 1)) (fun i => q5 + 1 + i) F2 ++ [])) := hD
                have hS := hS1
                have es : sgB (va_up dv d z) (d + 1) i j = sgK kd (va_up dv d z) (d + 1) i j := by unfold sgK; rw [if_neg (by omega)]
                refine z_top (b := sgK kd (va_up dv d z) (d + 1) i j) (es) ?_
                refine z_go 18 282 (z_runVN (As := [.int (iI (sgK kd (va_up dv d z) (d + 1) i j))]) (rest := [.int (iI ((j : Nat) : Int)), .ref (q5 + 1 + i)]) hC hml hl.1 (m_X1_mod hE H33 (hO.ext (zS_F hS) hMo) x la le dr p kn sm (sgK kd (va_up dv d z) (d + 1) i j) (zo hS hx0 hnx) hp7 (by omega)) q355 q62 q419 q354 qs5 nd_X1_mod rfl (z_rv hC (ci := 0) rfl (zo hS hx0 hnx) rfl) rfl (Nat.le_of_ble_eq_true rfl) ⟨Nat.le_of_ble_eq_true rfl, Nat.le_of_ble_eq_true rfl⟩ ⟨zfit (k := 0) (z := 18) rfl rfl (by omega), zfit (k := 0) (z := 282) rfl rfl (by omega)⟩ dX5_add_79) ⟨zad (k := 0) rfl (by omega), zad (k := 0) rfl (by omega)⟩ hS (fun _ z => z.elim) (fun r H34 locs hp hF hS1 => ?_)
                obtain ⟨_, rfl, rfl⟩ := hp
                have hP := zpk hP hF
                have hP : va_P G.1 zCl ([(g, zOb 4 [.ref (G.2 (10 + kd)), .ref dl, .ref ml, .ref q5, .ref x]), (dl, zOb 8 [.int (iI (dm + 1)), .ref arr1, .int (iI ((d + 1 : Nat) : Int))]), (arr1, zR G 10 (lf (d + 1) (va_up (fun i => G.2 (1000 + ((dv i).toNat + 128))) d (G.2 (1000 + (z.toNat + 128)))))), (q5, zII G (2 ^ (d + 1)) (fun i => some (q5 + 1 + i)))] ++ (zRows G (2 ^ (d + 1)) (2 ^ (d + 1)) (fun i => q5 + 1 + i) F2 ++ [])) H34 := hP
                have hD : va_D (zA (fun a => a = g ∨ a = dl ∨ (a = da ∧ da ≠ G.2 12)) H0) ([(g, zOb 4 [.ref (G.2 (10 + kd)), .ref dl, .ref ml, .ref q5, .ref x]), (dl, zOb 8 [.int (iI (dm + 1)), .ref arr1, .int (iI ((d + 1 : Nat) : Int))]), (arr1, zR G 10 (lf (d + 1) (va_up (fun i => G.2 (1000 + ((dv i).toNat + 128))) d (G.2 (1000 + (z.toNat + 128)))))), (q5, zII G (2 ^ (d + 1)) (fun i => some (q5 + 1 + i)))] ++ (zRows G (2 ^ (d + 1)) (2 ^ (d + 1)) (fun i => q5 + 1 + i) F2 ++ [])) := hD
                have hS := hS1
                refine z_iast hC hP hD hS (4 + i) (k := j) (zR_at (L := 4) rfl (by omega)) rfl (by omega) (ws' := [(g, zOb 4 [.ref (G.2 (10 + kd)), .ref dl, .ref ml, .ref q5, .ref x]), (dl, zOb 8 [.int (iI (dm + 1)), .ref arr1, .int (iI ((d + 1 : Nat) : Int))]), (arr1, zR G 10 (lf (d + 1) (va_up (fun i => G.2 (1000 + ((dv i).toNat + 128))) d (G.2 (1000 + (z.toNat + 128)))))), (q5, zII G (2 ^ (d + 1)) (fun i => some (q5 + 1 + i)))] ++ (zRows G (2 ^ (d + 1)) (2 ^ (d + 1)) (fun i => q5 + 1 + i) (fun jj => if jj = i then va_up (F2 i) j ((sgK kd (va_up dv d z) (d + 1) i j) % p) else F2 jj) ++ [])) (zR_set (L := 4) rfl (by omega)) dX5_add_82 (fun H36 locs hP hD hS => ?_)
                refine z_iinc (z := ((j + 1 : Nat) : Int)) (lv' := [(3, .int (iI ((j + 1 : Nat) : Int))), (2, .int (iI ((i : Nat) : Int))), (0, .ref g), (1, .int (iI z))]) hx hb dX5_add_83 hl (k := 0) rfl (by omega) (by decide) rfl (fun ls hl => ?_)
                refine lv_goto (tgt := 40) hx hb dX5_add_86 (by decide) ?_
                exact W.widen (by omega) (by omega) (ihlp12 (2 ^ (d + 1) - (j + 1)) (by omega) (j + 1) (fun jj => if jj = i then va_up (F2 i) j ((sgK kd (va_up dv d z) (d + 1) i j) % p) else F2 jj) rfl (by omega) (grD_step hf2 rfl) _ _ _  hP hD hS hl)
        exact W.widen (by omega) (by omega) (lp12 _ 0 F rfl (Nat.zero_le _) hf _ _ _  hP hD hS hl)
  exact W.widen (by omega) (by omega) (lp8 _ 0 (fun _ _ => 0) rfl (Nat.zero_le _) (grD_0 _ _) _ _ _  hP hD hS hl)

