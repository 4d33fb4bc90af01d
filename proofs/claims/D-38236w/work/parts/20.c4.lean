/-! THE CLASS: copies, mirrors, inverses, series -/
set_option maxRecDepth 100000

def mirV (p : Int) (n kd : Nat) (sg : Nat → Nat → Int) (v w : Nat → Int) : Nat → Int := scV p (-(ivS p (sqV p n kd sg v))) (tmV p n sg (tmV p n sg v w) v)
theorem sqV_in {p : Int} (hp : pr357 p) (n kd : Nat) (sg : Nat → Nat → Int) (v : Nat → Int) : -1 ≤ sqV p n kd sg v ∧ sqV p n kd sg v < p := by
  unfold sqV
  split
  · rcases hp with rfl | rfl | rfl <;> decide
  · have := tmV_ok hp (n + 1) sg v v 0 (by omega)
    have h2 : 0 ≤ tmV p n sg v v 0 ∧ tmV p n sg v v 0 < p := md_in hp _
    omega
theorem md_nz {p z : Int} (h : 0 < z ∧ z < p) : z % p ≠ 0 := by rw [Int.emod_eq_of_lt (by omega) h.2]; omega
theorem pa_nz {n : Nat} {v : Nat → Int} (h : paV n v = true) (h0 : zeV n v = false) : v 0 ≠ 0 := by
  intro e
  simp [paV, e] at h
  simp [zeV, h] at h0
def inOk (p : Int) (n kd : Nat) (sg : Nat → Nat → Int) (v : Nat → Int) : Prop := paV n (tmV p n sg v (cjV p kd v)) = true ∧ zeV n (tmV p n sg v (cjV p kd v)) = false
def inV (p : Int) (n kd : Nat) (sg : Nat → Nat → Int) (v : Nat → Int) : Nat → Int := scV p (ivS p (tmV p n sg v (cjV p kd v) 0)) (cjV p kd v)
def ptV (p : Int) (n : Nat) (sg : Nat → Nat → Int) (v : Nat → Int) : Nat → Nat → Int
  | 0 => oneV
  | k + 1 => scV p (ivS p (if (k : Int) + 1 = p then 1 else (k : Int) + 1)) (tmV p n sg (ptV p n sg v k) v)
def suV (p : Int) (n : Nat) (sg : Nat → Nat → Int) (v : Nat → Int) : Nat → Nat → Int
  | 0 => fun _ => 0
  | k + 1 => plV p 1 (suV p n sg v k) (ptV p n sg v k)
theorem ptV_ok {p : Int} (hp : pr357 p) (n : Nat) (sg : Nat → Nat → Int) (v : Nat → Int) : ∀ k, rw_ok p n (ptV p n sg v k)
  | 0 => oneV_ok hp n
  | _ + 1 => scV_ok hp n _ _
theorem suV_ok {p : Int} (hp : pr357 p) (n : Nat) (sg : Nat → Nat → Int) (v : Nat → Int) : ∀ k, rw_ok p n (suV p n sg v k)
  | 0 => fun _ _ => by show 0 ≤ (0 : Int) ∧ 0 < p; rcases hp with rfl | rfl | rfl <;> decide
  | _ + 1 => plV_ok hp n _ _ _
theorem fst_in (P : Nat → Bool) : ∀ f k : Nat, fst P f k = -1 ∨ ((k : Int) ≤ fst P f k ∧ fst P f k < k + f)
  | 0, _ => Or.inl rfl
  | f + 1, k => by
    have := fst_in P f (k + 1)
    simp only [fst]
    split
    · right; omega
    · omega
def enV (p : Int) (n : Nat) (sg : Nat → Nat → Int) (v : Nat → Int) : Int := fst (fpP p n sg v 0) p.toNat 1
theorem iv_in {p z : Int} (hp : pr357 p) (hz : z % p ≠ 0) : 1 ≤ ivS p z ∧ ivS p z ≤ 6 := ⟨(iv_ex hp hz).2.1, (iv_ex hp hz).2.2.1⟩

abbrev rm_m_J15_requireNonNull : Room := { frames := 0, cells := 0, slots := 0, locals := 0 }
set_option maxHeartbeats 4000000 in
theorem m_J15_requireNonNull {l : Launch} {s0 : State} {G : zG} (hE : zE l s0 G) (H0 : Heap) (hO : zO s0 H0) (a : Nat)  : zM l s0 yJ15_requireNonNull cJ15_requireNonNull 1 (some (FieldType.object "java/lang/Object")) rm_m_J15_requireNonNull [.ref a] H0 M0 (rr (fun q _ => q = a)) := by
  refine z_met hE (by decide +kernel) (Nat.le_of_ble_eq_true rfl) ?_
  intro pp ee ss mm args below meth cd Q ls hC hml hrt hlk hnm hH hQ hS hl
  have hx := hC.x
  have hb := hC.b
  have hl : lv_has ls 1 [(0, .ref a)] := hl
  have hP : va_P G.1 zCl [] H0 := va_nil
  have hD : va_D (zA M0 H0) [] := va_nilD
  refine lv_aload_n hx hb dJ15_requireNonNull_0 rfl (lv_at hl 0 rfl) ?_
  refine lv_ifnonnull (tgt := 12) hx hb dJ15_requireNonNull_1 (by decide) ?_
  refine lv_aload_n hx hb dJ15_requireNonNull_12 rfl (lv_at hl 0 rfl) ?_
  exact z_aret hC hrt hlk hQ hS ⟨zle (z := 0) rfl (by omega), zle (z := 0) rfl (by omega)⟩ ⟨_, rfl, rfl⟩ dJ15_requireNonNull_13

abbrev rm_m_J20_init : Room := { frames := 1, cells := 0, slots := 0, locals := 20 }
set_option maxHeartbeats 4000000 in
theorem m_J20_init {l : Launch} {s0 : State} {G : zG} (hE : zE l s0 G) (H0 : Heap) (hO : zO s0 H0) (q a : Nat) (hq : s0.heap.size ≤ q) (h : zAt G q (zOb 10 [.null]) H0) : zM l s0 yJ20_init cJ20_init 2 (none : Option FieldType) rm_m_J20_init [.ref q, .ref a] H0 (fun z => z = q) (rv (fun h1 => zAt G q (zOb 10 [.ref a]) h1)) := by
  refine z_met hE (by decide +kernel) (Nat.le_of_ble_eq_true rfl) ?_
  intro pp ee ss mm args below meth cd Q ls hC hml hrt hlk hnm hH hQ hS hl
  have hx := hC.x
  have hb := hC.b
  have hl : lv_has ls 2 [(0, .ref q), (1, .ref a)] := hl
  have hP : va_P G.1 zCl [(q, zOb 10 [.null])] H0 := zP1 h
  have hD : va_D (zA (fun z => z = q) H0) [(q, zOb 10 [.null])] := zD1 (Or.inl rfl)
  have hMo : ∀ z, (fun z => z = q) z → s0.heap.size ≤ z := fun z hz => hz ▸ hq
  refine lv_aload_n hx hb dJ20_init_0 rfl (lv_at hl 0 rfl) ?_
  refine W.objInit hx hb hC.o (hC.t _ q1218) (hC.t _ q108) (hC.t _ q109) rfl (by rw [hml]; exact hl.1) rfl dJ20_init_1 (Nat.le_of_ble_eq_true rfl) (Nat.le_of_ble_eq_true rfl) ?_
  refine W.eq (g2 := F0 mm 4 ls []) rfl ?_
  refine lv_aload_n hx hb dJ20_init_4 rfl (lv_at hl 0 rfl) ?_
  refine lv_aload_n hx hb dJ20_init_5 rfl (lv_at hl 1 rfl) ?_
  refine z_putF hC hnm hP hD hS 0 (k := 0) rfl rfl in_J20 tyJ20_ok nmJ20 (by decide) q1219 (fun _ h => h) rfl rfl rfl rfl rfl (Nat.le_of_ble_eq_true rfl) (ws' := [(q, zOb 10 [.ref a])]) rfl dJ20_init_6 (fun H1 locs hP hD hS => ?_)
  exact z_vret hC hrt hlk hQ hS ⟨zle (z := 0) rfl (by omega), zle (z := 0) rfl (by omega)⟩ ⟨rfl, hP 0 _ rfl⟩ dJ20_init_9

abbrev rm_m_J20_of : Room := { frames := 2, cells := 1, slots := 1, locals := 41 }
set_option maxHeartbeats 4000000 in
theorem m_J20_of {l : Launch} {s0 : State} {G : zG} (hE : zE l s0 G) (H0 : Heap) (hO : zO s0 H0) (a : Nat)  : zM l s0 yJ20_of cJ20_of 1 (some (FieldType.object "java/util/Optional")) rm_m_J20_of [.ref a] H0 M0 (rr (fun q h1 => NW G H0 h1 [(q, zOb 10 [.ref a])])) := by
  refine z_met hE (by decide +kernel) (Nat.le_of_ble_eq_true rfl) ?_
  intro pp ee ss mm args below meth cd Q ls hC hml hrt hlk hnm hH hQ hS hl
  have hx := hC.x
  have hb := hC.b
  have hl : lv_has ls 1 [(0, .ref a)] := hl
  have hP : va_P G.1 zCl [] H0 := va_nil
  have hD : va_D (zA M0 H0) [] := va_nilD
  refine z_new hC hP hD hS (c1 := 1) (s1 := 1) (fs := [.null]) (ci := 10) rfl in_J20 tyJ20_ok q1210 q1211 q94 df_J20 ⟨zle (z := 1) rfl (by omega), zle (z := 1) rfl (by omega)⟩ ⟨by omega, by omega⟩ (ws' := fun q1 => [(q1, zOb 10 [.null])]) (fun _ => rfl) dJ20_of_0 (fun q1 H2 hq0q1 hq1q1 hP hD hS hF => ?_)
  refine lv_dup hx hb dJ20_of_3 rfl ?_
  refine lv_aload_n hx hb dJ20_of_4 rfl (lv_at hl 0 rfl) ?_
  refine z_go 1 1 (z_runS (As := [.ref a]) (rest := [.ref q1, .ref q1]) hC hml hl.1 (m_J15_requireNonNull hE H2 (hO.ext0 (zS_F hS)) a ) (lw_S q1212 q1213 q86 q1214) nd_J15_requireNonNull rfl rfl (Nat.le_of_ble_eq_true rfl) ⟨Nat.le_of_ble_eq_true rfl, Nat.le_of_ble_eq_true rfl⟩ ⟨zfit (k := 0) (z := 1) rfl rfl (by omega), zfit (k := 0) (z := 1) rfl rfl (by omega)⟩ dJ20_of_5) ⟨zad (k := 0) rfl (by omega), zad (k := 0) rfl (by omega)⟩ hS (fun _ z => z.elim) (fun r H3 locs hp hF hS1 => ?_)
  obtain ⟨_, rfl, hqa⟩ := hp
  have hP := zpk hP hF
  have hP : va_P G.1 zCl ([(q1, zOb 10 [.null])]) H3 := hP
  have hD : va_D (zA M0 H0) ([(q1, zOb 10 [.null])]) := hD
  have hS := hS1
  have hqa := hqa.symm
  subst hqa
  refine z_go 1 1 (z_runI (As := [.ref a]) (rest := [.ref q1]) hC hml hl.1 (m_J20_init hE H3 (hO.ext0 (zS_F hS)) q1 a (Nat.le_trans hO.1 hq0q1) (hP 0 _ rfl)) q1217 q94 q1215 q1216 rfl nd_J20_init rfl rfl (Nat.le_of_ble_eq_true rfl) ⟨Nat.le_of_ble_eq_true rfl, Nat.le_of_ble_eq_true rfl⟩ ⟨zfit (k := 0) (z := 1) rfl rfl (by omega), zfit (k := 0) (z := 1) rfl rfl (by omega)⟩ dJ20_of_8) ⟨zad (k := 0) rfl (by omega), zad (k := 0) rfl (by omega)⟩ hS (fun q z => by subst z; exact hD.2 0 _ rfl) (fun r H4 locs hp hF hS1 => ?_)
  obtain ⟨rfl, hm⟩ := hp
  obtain ⟨hP, hD⟩ := zjm hP hD hF 0 rfl hm
  have hP : va_P G.1 zCl ([(q1, zOb 10 [.ref a])]) H4 := hP
  have hD : va_D (zA M0 H0) ([(q1, zOb 10 [.ref a])]) := hD
  have hS := hS1
  exact z_aret hC hrt hlk hQ hS ⟨zle (z := 1) rfl (by omega), zle (z := 1) rfl (by omega)⟩ ⟨_, rfl, hP, zdn hD⟩ dJ20_of_11

abbrev rm_m_J20_empty : Room := { frames := 0, cells := 0, slots := 0, locals := 0 }
set_option maxHeartbeats 4000000 in
theorem m_J20_empty {l : Launch} {s0 : State} {G : zG} (hE : zE l s0 G) (H0 : Heap) (hO : zO s0 H0)   : zM l s0 yJ20_empty cJ20_empty 1 (some (FieldType.object "java/util/Optional")) rm_m_J20_empty [] H0 M0 (rr (fun q _ => q = G.2 13)) := by
  refine z_met hE (by decide +kernel) (Nat.le_of_ble_eq_true rfl) ?_
  intro pp ee ss mm args below meth cd Q ls hC hml hrt hlk hnm hH hQ hS hl
  have hx := hC.x
  have hb := hC.b
  have hl : lv_has ls 1 [] := hl
  have hP : va_P G.1 zCl [] H0 := va_nil
  have hD : va_D (zA M0 H0) [] := va_nilD
  refine z_gets hC (hO.ext0 (zS_F hS)) (hE.2.2.2.1.2.2.1.1) q1226 dJ20_empty_0 ?_
  refine lv_astore_n (lv' := [(0, .ref (G.2 13))]) hx hb dJ20_empty_3 rfl hl (by decide) rfl (fun ls hl => ?_)
  refine lv_aload_n hx hb dJ20_empty_4 rfl (lv_at hl 0 rfl) ?_
  exact z_aret hC hrt hlk hQ hS ⟨zle (z := 0) rfl (by omega), zle (z := 0) rfl (by omega)⟩ ⟨_, rfl, rfl⟩ dJ20_empty_5

abbrev rm_m_J20_isPresent : Room := { frames := 0, cells := 0, slots := 0, locals := 0 }
set_option maxHeartbeats 4000000 in
theorem m_J20_isPresent {l : Launch} {s0 : State} {G : zG} (hE : zE l s0 G) (H0 : Heap) (hO : zO s0 H0) (q a : Nat) (h : zAt G q (zOb 10 [.ref a]) H0) : zM l s0 yJ20_isPresent cJ20_isPresent 1 (some FieldType.boolean) rm_m_J20_isPresent [.ref q] H0 M0 (ri (fun y _ => y = 1)) := by
  refine z_met hE (by decide +kernel) (Nat.le_of_ble_eq_true rfl) ?_
  intro pp ee ss mm args below meth cd Q ls hC hml hrt hlk hnm hH hQ hS hl
  have hx := hC.x
  have hb := hC.b
  have hl : lv_has ls 1 [(0, .ref q)] := hl
  have hP : va_P G.1 zCl [] H0 := va_nil
  have hD : va_D (zA M0 H0) [] := va_nilD
  refine lv_aload_n hx hb dJ20_isPresent_0 rfl (lv_at hl 0 rfl) ?_
  refine z_get hC (k := 0) rfl in_J20 (zo hS h id) (by decide) q1219 (fun _ h => h) rfl dJ20_isPresent_1 ?_
  refine lv_ifnull hx hb dJ20_isPresent_4 ?_
  refine lv_iconst (v := iI 1) hx hb dJ20_isPresent_7 rfl ?_
  refine lv_goto (tgt := 12) hx hb dJ20_isPresent_8 (by decide) ?_
  exact z_zret hC hrt hlk hQ hS ⟨zle (z := 0) rfl (by omega), zle (z := 0) rfl (by omega)⟩ (by omega) ⟨_, rfl, rfl⟩ dJ20_isPresent_12

abbrev rm_m_J20_isPresent_n : Room := { frames := 0, cells := 0, slots := 0, locals := 0 }
set_option maxHeartbeats 4000000 in
theorem m_J20_isPresent_n {l : Launch} {s0 : State} {G : zG} (hE : zE l s0 G) (H0 : Heap) (hO : zO s0 H0)   : zM l s0 yJ20_isPresent cJ20_isPresent 1 (some FieldType.boolean) rm_m_J20_isPresent_n [.ref (G.2 13)] H0 M0 (ri (fun y _ => y = 0)) := by
  refine z_met hE (by decide +kernel) (Nat.le_of_ble_eq_true rfl) ?_
  intro pp ee ss mm args below meth cd Q ls hC hml hrt hlk hnm hH hQ hS hl
  have hx := hC.x
  have hb := hC.b
  have hl : lv_has ls 1 [(0, .ref (G.2 13))] := hl
  have hP : va_P G.1 zCl [] H0 := va_nil
  have hD : va_D (zA M0 H0) [] := va_nilD
  refine lv_aload_n hx hb dJ20_isPresent_0 rfl (lv_at hl 0 rfl) ?_
  refine z_getE hC (hO.ext0 (zS_F hS)) q1219 dJ20_isPresent_1 ?_
  refine lv_ifnullN (tgt := 11) hx hb dJ20_isPresent_4 (by decide) ?_
  refine lv_iconst (v := iI 0) hx hb dJ20_isPresent_11 rfl ?_
  exact z_zret hC hrt hlk hQ hS ⟨zle (z := 0) rfl (by omega), zle (z := 0) rfl (by omega)⟩ (by omega) ⟨_, rfl, rfl⟩ dJ20_isPresent_12

abbrev rm_m_J20_get : Room := { frames := 0, cells := 0, slots := 0, locals := 0 }
set_option maxHeartbeats 4000000 in
theorem m_J20_get {l : Launch} {s0 : State} {G : zG} (hE : zE l s0 G) (H0 : Heap) (hO : zO s0 H0) (q a : Nat) (h : zAt G q (zOb 10 [.ref a]) H0) : zM l s0 yJ20_get cJ20_get 1 (some (FieldType.object "java/lang/Object")) rm_m_J20_get [.ref q] H0 M0 (rr (fun y _ => y = a)) := by
  refine z_met hE (by decide +kernel) (Nat.le_of_ble_eq_true rfl) ?_
  intro pp ee ss mm args below meth cd Q ls hC hml hrt hlk hnm hH hQ hS hl
  have hx := hC.x
  have hb := hC.b
  have hl : lv_has ls 1 [(0, .ref q)] := hl
  have hP : va_P G.1 zCl [] H0 := va_nil
  have hD : va_D (zA M0 H0) [] := va_nilD
  refine lv_aload_n hx hb dJ20_get_0 rfl (lv_at hl 0 rfl) ?_
  refine z_get hC (k := 0) rfl in_J20 (zo hS h id) (by decide) q1219 (fun _ h => h) rfl dJ20_get_1 ?_
  refine lv_ifnonnull (tgt := 17) hx hb dJ20_get_4 (by decide) ?_
  refine lv_aload_n hx hb dJ20_get_17 rfl (lv_at hl 0 rfl) ?_
  refine z_get hC (k := 0) rfl in_J20 (zo hS h id) (by decide) q1219 (fun _ h => h) rfl dJ20_get_18 ?_
  exact z_aret hC hrt hlk hQ hS ⟨zle (z := 0) rfl (by omega), zle (z := 0) rfl (by omega)⟩ ⟨_, rfl, rfl⟩ dJ20_get_21

abbrev rm_m_X7_copy : Room := { frames := 3, cells := 2, slots := 19, locals := 62 }
set_option maxHeartbeats 4000000 in
theorem m_X7_copy {l : Launch} {s0 : State} {G : zG} (hE : zE l s0 G) (H0 : Heap) (hO : zO s0 H0) (x g : Nat) (p : Int) (d n kd : Nat) (dv : Nat → Int) (sg : Nat → Nat → Int) (a r : Nat) (v : Nat → Int) (hA : zAg G x g p d n kd dv sg H0) (h : zEl G x g a r n v H0) (hv : rw_ok p n v) : zM l s0 yX7_copy cX7_copy 2 (some (FieldType.object "Versorhall$Element")) rm_m_X7_copy [.ref a] H0 M0 (rr (fun q h1 => ∃ r1, NW G H0 h1 [(q, zOb 6 [.ref g, .ref r1, .ref x]), (r1, zI G n (v))])) := by
  refine z_met hE (by decide +kernel) (Nat.le_of_ble_eq_true rfl) ?_
  intro pp ee ss mm args below meth cd Q ls hC hml hrt hlk hnm hH hQ hS hl
  have hx := hC.x
  have hb := hC.b
  have hl : lv_has ls 2 [(0, .ref a)] := hl
  have hP : va_P G.1 zCl [] H0 := va_nil
  have hD : va_D (zA M0 H0) [] := va_nilD
  obtain ⟨la, le, dr, kn, sm, dl, da, ml, so, dm, ro, hx0, hg0, hL0, hso, hro, hfa⟩ := id hA
  obtain ⟨hp, hd4, hn2, hkd, hdv, hsg⟩ := hfa
  obtain ⟨hn16, hp7⟩ := hA.n
  refine z_new hC hP hD hS (c1 := 1) (s1 := 3) (fs := [.null, .null, .null]) (ci := 6) rfl in_X7 tyX7_ok q315 q316 q92 df_X7 ⟨zle (z := 2) rfl (by omega), zle (z := 19) rfl (by omega)⟩ ⟨by omega, by omega⟩ (ws' := fun q1 => [(q1, zOb 6 [.null, .null, .null])]) (fun _ => rfl) dX7_copy_0 (fun q1 H2 hq0q1 hq1q1 hP hD hS hF => ?_)
  refine lv_dup hx hb dX7_copy_3 rfl ?_
  refine lv_aload_n hx hb dX7_copy_4 rfl (lv_at hl 0 rfl) ?_
  refine z_get hC (k := 2) rfl in_X7 (zo hS h.1 id) (by decide) q326 (fun _ h => h) rfl dX7_copy_5 ?_
  refine lv_aload_n hx hb dX7_copy_8 rfl (lv_at hl 0 rfl) ?_
  refine z_get hC (k := 0) rfl in_X7 (zo hS h.1 id) (by decide) q322 (fun _ h => h) rfl dX7_copy_9 ?_
  refine z_go 2 19 (z_runI (As := [.ref x, .ref g]) (rest := [.ref q1]) hC hml hl.1 (m_X7_init hE H2 (hO.ext0 (zS_F hS)) x g p d n kd dv sg q1 (Nat.le_trans hO.1 hq0q1) (hA.ext0 (zS_F hS)) (hP 0 _ rfl)) q319 q92 q317 q318 rfl nd_X7_init rfl rfl (Nat.le_of_ble_eq_true rfl) ⟨Nat.le_of_ble_eq_true rfl, Nat.le_of_ble_eq_true rfl⟩ ⟨zfit (k := 1) (z := 2) rfl rfl (by omega), zfit (k := 16) (z := 19) rfl rfl (by omega)⟩ dX7_copy_12) ⟨zad (k := 1) rfl (by omega), zad (k := 16) rfl (by omega)⟩ hS (fun q z => by subst z; exact hD.2 0 _ rfl) (fun r H3 locs hp hF hS1 => ?_)
  obtain ⟨rfl, rq1, hm, hN⟩ := hp
  obtain ⟨hP, hD⟩ := zjmn hP hD hS.1 hF 0 rfl hm hN
  have hP : va_P G.1 zCl ([(q1, zOb 6 [.ref g, .ref rq1, .ref x]), (rq1, zI G n (fun _ => 0))]) H3 := hP
  have hD : va_D (zA M0 H0) ([(q1, zOb 6 [.ref g, .ref rq1, .ref x]), (rq1, zI G n (fun _ => 0))]) := hD
  have hS := hS1
  refine lv_astore_n (lv' := [(1, .ref q1), (0, .ref a)]) hx hb dX7_copy_15 rfl hl (by decide) rfl (fun ls hl => ?_)
  refine lv_aload_n hx hb dX7_copy_16 rfl (lv_at hl 1 rfl) ?_
  refine z_get hC (k := 1) rfl in_X7 (zo hS h.1 id) (by decide) q324 (fun _ h => h) rfl dX7_copy_17 ?_
  refine lv_iconst (v := iI 0) hx hb dX7_copy_20 rfl ?_
  refine lv_aload_n hx hb dX7_copy_21 rfl (lv_at hl 0 rfl) ?_
  refine z_get hC (k := 1) rfl in_X7 (hP 0 _ rfl) (by decide) q324 (fun _ h => h) rfl dX7_copy_22 ?_
  refine lv_iconst (v := iI 0) hx hb dX7_copy_25 rfl ?_
  refine lv_aload_n hx hb dX7_copy_26 rfl (lv_at hl 1 rfl) ?_
  refine z_get hC (k := 1) rfl in_X7 (zo hS h.1 id) (by decide) q324 (fun _ h => h) rfl dX7_copy_27 ?_
  refine z_alen hC 0 (zo hS h.2 id) rfl (y := ((n : Nat) : Int)) rfl dX7_copy_30 ?_
  refine z_copyi hC (hml.trans hl.1.symm) q1277 hP hD hS 1 (zo hS h.2 id) rfl rfl (by omega) (ws' := [(q1, zOb 6 [.ref g, .ref rq1, .ref x]), (rq1, zI G n v)]) rfl (by decide +kernel) (by decide +kernel) dX7_copy_31 (fun H4 locs hP hD hS => ?_)
  refine lv_aload_n hx hb dX7_copy_34 rfl (lv_at hl 0 rfl) ?_
  exact z_aret hC hrt hlk hQ hS ⟨zle (z := 2) rfl (by omega), zle (z := 19) rfl (by omega)⟩ ⟨_, rfl, _, hP, zdn hD⟩ dX7_copy_35

abbrev rm_m_X7_mirrored : Room := { frames := 5, cells := 8, slots := 76, locals := 107 }
set_option maxHeartbeats 4000000 in
theorem m_X7_mirrored {l : Launch} {s0 : State} {G : zG} (hE : zE l s0 G) (H0 : Heap) (hO : zO s0 H0) (x g : Nat) (p : Int) (d n kd : Nat) (dv : Nat → Int) (sg : Nat → Nat → Int) (a r : Nat) (v : Nat → Int) (b s : Nat) (w : Nat → Int) (hA : zAg G x g p d n kd dv sg H0) (h : zEl G x g a r n v H0) (hv : rw_ok p n v) (h2 : zEl G x g b s n w H0) (hw : rw_ok p n w) (hsq : 0 < sqV p n kd sg v) : zM l s0 yX7_mirrored cX7_mirrored 2 (some (FieldType.object "Versorhall$Element")) rm_m_X7_mirrored [.ref a, .ref b] H0 M0 (rr (fun q h1 => ∃ r1, NW G H0 h1 [(q, zOb 6 [.ref g, .ref r1, .ref x]), (r1, zI G n (mirV p n kd sg v w))])) := by
  refine z_met hE (by decide +kernel) (Nat.le_of_ble_eq_true rfl) ?_
  intro pp ee ss mm args below meth cd Q ls hC hml hrt hlk hnm hH hQ hS hl
  have hx := hC.x
  have hb := hC.b
  have hl : lv_has ls 2 [(0, .ref a), (1, .ref b)] := hl
  have hP : va_P G.1 zCl [] H0 := va_nil
  have hD : va_D (zA M0 H0) [] := va_nilD
  obtain ⟨la, le, dr, kn, sm, dl, da, ml, so, dm, ro, hx0, hg0, hL0, hso, hro, hfa⟩ := id hA
  obtain ⟨hp, hd4, hn2, hkd, hdv, hsg⟩ := hfa
  obtain ⟨hn16, hp7⟩ := hA.n
  have hq := sqV_in hp n kd sg v
  have hiv := iv_in hp (md_nz ⟨hsq, hq.2⟩)
  refine lv_aload_n hx hb dX7_mirrored_0 rfl (lv_at hl 0 rfl) ?_
  refine lv_aload_n hx hb dX7_mirrored_1 rfl (lv_at hl 1 rfl) ?_
  refine z_go 2 19 (z_runV (As := [.ref b]) (rest := []) hC hml hl.1 (m_X7_times hE H0 (hO.ext0 (zS_F hS)) x g p d n kd dv sg a r (v) b s (w)  (hA.ext0 (zS_F hS)) (h.ext0 (zS_F hS)) hv (h2.ext0 (zS_F hS)) hw ) (lw_V q359 q360 q361 q92 q362) rfl nd_X7_times rfl (z_rv hC (ci := 6) rfl (zo hS h.1 id) rfl) rfl (Nat.le_of_ble_eq_true rfl) ⟨Nat.le_of_ble_eq_true rfl, Nat.le_of_ble_eq_true rfl⟩ ⟨zfit (k := 2) (z := 8) rfl rfl (by omega), zfit (k := 19) (z := 76) rfl rfl (by omega)⟩ dX7_mirrored_2) ⟨zad (k := 2) rfl (by omega), zad (k := 19) rfl (by omega)⟩ hS (fun _ z => z.elim) (fun r H3 locs hp hF hS1 => ?_)
  obtain ⟨qe1, rfl, re2, hN⟩ := hp
  obtain ⟨hP, hD⟩ := zjn hP hD hS.1 hF hN
  have hP : va_P G.1 zCl ([(qe1, zOb 6 [.ref g, .ref re2, .ref x]), (re2, zI G n (tmV p n sg v w))]) H3 := hP
  have hD : va_D (zA M0 H0) ([(qe1, zOb 6 [.ref g, .ref re2, .ref x]), (re2, zI G n (tmV p n sg v w))]) := hD
  have hS := hS1
  refine lv_aload_n hx hb dX7_mirrored_5 rfl (lv_at hl 0 rfl) ?_
  refine z_go 4 38 (z_runV (As := [.ref a]) (rest := []) hC hml hl.1 (m_X7_times hE H3 (hO.ext0 (zS_F hS)) x g p d n kd dv sg qe1 re2 (tmV p n sg v w) a r (v)  (hA.ext0 (zS_F hS)) ⟨hP 0 _ rfl, hP 1 _ rfl⟩ (tmV_ok hp n sg _ _) (h.ext0 (zS_F hS)) hv ) (lw_V q359 q360 q361 q92 q362) rfl nd_X7_times rfl (z_rv hC (ci := 6) rfl (hP 0 _ rfl) rfl) rfl (Nat.le_of_ble_eq_true rfl) ⟨Nat.le_of_ble_eq_true rfl, Nat.le_of_ble_eq_true rfl⟩ ⟨zfit (k := 2) (z := 8) rfl rfl (by omega), zfit (k := 19) (z := 76) rfl rfl (by omega)⟩ dX7_mirrored_6) ⟨zad (k := 2) rfl (by omega), zad (k := 19) rfl (by omega)⟩ hS (fun _ z => z.elim) (fun r H6 locs hp hF hS1 => ?_)
  obtain ⟨qe4, rfl, re5, hN⟩ := hp
  obtain ⟨hP, hD⟩ := zjn hP hD hS.1 hF hN
  have hP : va_P G.1 zCl ([(qe1, zOb 6 [.ref g, .ref re2, .ref x]), (re2, zI G n (tmV p n sg v w)), (qe4, zOb 6 [.ref g, .ref re5, .ref x]), (re5, zI G n (tmV p n sg (tmV p n sg v w) v))]) H6 := hP
  have hD : va_D (zA M0 H0) ([(qe1, zOb 6 [.ref g, .ref re2, .ref x]), (re2, zI G n (tmV p n sg v w)), (qe4, zOb 6 [.ref g, .ref re5, .ref x]), (re5, zI G n (tmV p n sg (tmV p n sg v w) v))]) := hD
  have hS := hS1
  refine lv_aload_n hx hb dX7_mirrored_9 rfl (lv_at hl 0 rfl) ?_
  refine z_get hC (k := 2) rfl in_X7 (zo hS h.1 id) (by decide) q326 (fun _ h => h) rfl dX7_mirrored_10 ?_
  refine lv_aload_n hx hb dX7_mirrored_13 rfl (lv_at hl 0 rfl) ?_
  refine z_go 6 57 (z_runV (As := []) (rest := [.ref x, .ref qe4]) hC hml hl.1 (m_X7_square hE H6 (hO.ext0 (zS_F hS)) x g p d n kd dv sg a r (v)  (hA.ext0 (zS_F hS)) (h.ext0 (zS_F hS)) hv ) (lw_V q1364 q522 q523 q92 q524) rfl nd_X7_square rfl (z_rv hC (ci := 6) rfl (zo hS h.1 id) rfl) rfl (Nat.le_of_ble_eq_true rfl) ⟨Nat.le_of_ble_eq_true rfl, Nat.le_of_ble_eq_true rfl⟩ ⟨zfit (k := 2) (z := 8) rfl rfl (by omega), zfit (k := 19) (z := 76) rfl rfl (by omega)⟩ dX7_mirrored_14) ⟨zad (k := 2) rfl (by omega), zad (k := 19) rfl (by omega)⟩ hS (fun _ z => z.elim) (fun r H7 locs hp hF hS1 => ?_)
  obtain ⟨_, rfl, rfl⟩ := hp
  have hP := zpk hP hF
  have hP : va_P G.1 zCl ([(qe1, zOb 6 [.ref g, .ref re2, .ref x]), (re2, zI G n (tmV p n sg v w)), (qe4, zOb 6 [.ref g, .ref re5, .ref x]), (re5, zI G n (tmV p n sg (tmV p n sg v w) v))]) H7 := hP
  have hD : va_D (zA M0 H0) ([(qe1, zOb 6 [.ref g, .ref re2, .ref x]), (re2, zI G n (tmV p n sg v w)), (qe4, zOb 6 [.ref g, .ref re5, .ref x]), (re5, zI G n (tmV p n sg (tmV p n sg v w) v))]) := hD
  have hS := hS1
  refine z_go 6 57 (z_runVN (As := [.int (iI (sqV p n kd sg v))]) (rest := [.ref qe4]) hC hml hl.1 (m_X1_inverseOf hE H7 (hO.ext0 (zS_F hS)) x la le dr p kn sm (sqV p n kd sg v) (zo hS hx0 id) hp (md_nz ⟨hsq, hq.2⟩) (by omega)) q544 q62 q541 q543 qs18 nd_X1_inverseOf rfl (z_rv hC (ci := 0) rfl (zo hS hx0 id) rfl) rfl (Nat.le_of_ble_eq_true rfl) ⟨Nat.le_of_ble_eq_true rfl, Nat.le_of_ble_eq_true rfl⟩ ⟨zfit (k := 0) (z := 8) rfl rfl (by omega), zfit (k := 0) (z := 76) rfl rfl (by omega)⟩ dX7_mirrored_17) ⟨zad (k := 0) rfl (by omega), zad (k := 0) rfl (by omega)⟩ hS (fun _ z => z.elim) (fun r H8 locs hp hF hS1 => ?_)
  obtain ⟨_, rfl, rfl⟩ := hp
  have hP := zpk hP hF
  have hP : va_P G.1 zCl ([(qe1, zOb 6 [.ref g, .ref re2, .ref x]), (re2, zI G n (tmV p n sg v w)), (qe4, zOb 6 [.ref g, .ref re5, .ref x]), (re5, zI G n (tmV p n sg (tmV p n sg v w) v))]) H8 := hP
  have hD : va_D (zA M0 H0) ([(qe1, zOb 6 [.ref g, .ref re2, .ref x]), (re2, zI G n (tmV p n sg v w)), (qe4, zOb 6 [.ref g, .ref re5, .ref x]), (re5, zI G n (tmV p n sg (tmV p n sg v w) v))]) := hD
  have hS := hS1
  refine z_neg hx hb (z := -(ivS p (sqV p n kd sg v))) dX7_mirrored_20 rfl ?_
  refine z_go 8 76 (z_runV (As := [.int (iI (-(ivS p (sqV p n kd sg v))))]) (rest := []) hC hml hl.1 (m_X7_times_2 hE H8 (hO.ext0 (zS_F hS)) x g p d n kd dv sg qe4 re5 (tmV p n sg (tmV p n sg v w) v) (-(ivS p (sqV p n kd sg v))) (hA.ext0 (zS_F hS)) ⟨hP 2 _ rfl, hP 3 _ rfl⟩ (tmV_ok hp n sg _ _) (by omega)) (lw_V q1206 q1173 q1174 q92 q1175) rfl nd_X7_times_2 rfl (z_rv hC (ci := 6) rfl (hP 2 _ rfl) rfl) rfl (Nat.le_of_ble_eq_true rfl) ⟨Nat.le_of_ble_eq_true rfl, Nat.le_of_ble_eq_true rfl⟩ ⟨zfit (k := 2) (z := 8) rfl rfl (by omega), zfit (k := 19) (z := 76) rfl rfl (by omega)⟩ dX7_mirrored_21) ⟨zad (k := 2) rfl (by omega), zad (k := 19) rfl (by omega)⟩ hS (fun _ z => z.elim) (fun r H11 locs hp hF hS1 => ?_)
  obtain ⟨qe9, rfl, re10, hN⟩ := hp
  obtain ⟨hP, hD⟩ := zjn hP hD hS.1 hF hN
  have hP : va_P G.1 zCl ([(qe1, zOb 6 [.ref g, .ref re2, .ref x]), (re2, zI G n (tmV p n sg v w)), (qe4, zOb 6 [.ref g, .ref re5, .ref x]), (re5, zI G n (tmV p n sg (tmV p n sg v w) v)), (qe9, zOb 6 [.ref g, .ref re10, .ref x]), (re10, zI G n (scV p (-(ivS p (sqV p n kd sg v))) (tmV p n sg (tmV p n sg v w) v)))]) H11 := hP
  have hD : va_D (zA M0 H0) ([(qe1, zOb 6 [.ref g, .ref re2, .ref x]), (re2, zI G n (tmV p n sg v w)), (qe4, zOb 6 [.ref g, .ref re5, .ref x]), (re5, zI G n (tmV p n sg (tmV p n sg v w) v)), (qe9, zOb 6 [.ref g, .ref re10, .ref x]), (re10, zI G n (scV p (-(ivS p (sqV p n kd sg v))) (tmV p n sg (tmV p n sg v w) v)))]) := hD
  have hS := hS1
  exact z_aret hC hrt hlk hQ hS ⟨zle (z := 8) rfl (by omega), zle (z := 76) rfl (by omega)⟩ ⟨_, rfl, _, hP.sub [4, 5] rfl, zdn (hD.sub [4, 5] (by decide) rfl)⟩ dX7_mirrored_24

abbrev rm_m_X7_inverse : Room := { frames := 4, cells := 9, slots := 77, locals := 86 }
set_option maxHeartbeats 4000000 in
theorem m_X7_inverse {l : Launch} {s0 : State} {G : zG} (hE : zE l s0 G) (H0 : Heap) (hO : zO s0 H0) (x g : Nat) (p : Int) (d n kd : Nat) (dv : Nat → Int) (sg : Nat → Nat → Int) (a r : Nat) (v : Nat → Int) (hA : zAg G x g p d n kd dv sg H0) (h : zEl G x g a r n v H0) (hv : rw_ok p n v) : zM l s0 yX7_inverse cX7_inverse 2 (some (FieldType.object "java/util/Optional")) rm_m_X7_inverse [.ref a] H0 M0 (rr (fun q h1 => ((inOk p n kd sg v) ∧ ∃ a1 r1 : Nat, NW G H0 h1 [(q, zOb 10 [.ref a1]), (a1, zOb 6 [.ref g, .ref r1, .ref x]), (r1, zI G n (inV p n kd sg v))]) ∨ (¬ (inOk p n kd sg v) ∧ q = G.2 13))) := by
  refine z_met hE (by decide +kernel) (Nat.le_of_ble_eq_true rfl) ?_
  intro pp ee ss mm args below meth cd Q ls hC hml hrt hlk hnm hH hQ hS hl
  have hx := hC.x
  have hb := hC.b
  have hl : lv_has ls 2 [(0, .ref a)] := hl
  have hP : va_P G.1 zCl [] H0 := va_nil
  have hD : va_D (zA M0 H0) [] := va_nilD
  obtain ⟨la, le, dr, kn, sm, dl, da, ml, so, dm, ro, hx0, hg0, hL0, hso, hro, hfa⟩ := id hA
  obtain ⟨hp, hd4, hn2, hkd, hdv, hsg⟩ := hfa
  obtain ⟨hn16, hp7⟩ := hA.n
  refine lv_aload_n hx hb dX7_inverse_0 rfl (lv_at hl 0 rfl) ?_
  refine lv_aload_n hx hb dX7_inverse_1 rfl (lv_at hl 0 rfl) ?_
  refine z_go 2 19 (z_runV (As := []) (rest := [.ref a]) hC hml hl.1 (m_X7_conjugate hE H0 (hO.ext0 (zS_F hS)) x g p d n kd dv sg a r (v)  (hA.ext0 (zS_F hS)) (h.ext0 (zS_F hS)) hv ) (lw_V q311 q312 q313 q92 q314) rfl nd_X7_conjugate rfl (z_rv hC (ci := 6) rfl (zo hS h.1 id) rfl) rfl (Nat.le_of_ble_eq_true rfl) ⟨Nat.le_of_ble_eq_true rfl, Nat.le_of_ble_eq_true rfl⟩ ⟨zfit (k := 2) (z := 9) rfl rfl (by omega), zfit (k := 19) (z := 77) rfl rfl (by omega)⟩ dX7_inverse_2) ⟨zad (k := 2) rfl (by omega), zad (k := 19) rfl (by omega)⟩ hS (fun _ z => z.elim) (fun r H3 locs hp hF hS1 => ?_)
  obtain ⟨qe1, rfl, re2, hN⟩ := hp
  obtain ⟨hP, hD⟩ := zjn hP hD hS.1 hF hN
  have hP : va_P G.1 zCl ([(qe1, zOb 6 [.ref g, .ref re2, .ref x]), (re2, zI G n (cjV p kd v))]) H3 := hP
  have hD : va_D (zA M0 H0) ([(qe1, zOb 6 [.ref g, .ref re2, .ref x]), (re2, zI G n (cjV p kd v))]) := hD
  have hS := hS1
  refine z_go 4 38 (z_runV (As := [.ref qe1]) (rest := []) hC hml hl.1 (m_X7_times hE H3 (hO.ext0 (zS_F hS)) x g p d n kd dv sg a r (v) qe1 re2 (cjV p kd v)  (hA.ext0 (zS_F hS)) (h.ext0 (zS_F hS)) hv ⟨hP 0 _ rfl, hP 1 _ rfl⟩ (cjV_ok hp n kd _) ) (lw_V q359 q360 q361 q92 q362) rfl nd_X7_times rfl (z_rv hC (ci := 6) rfl (zo hS h.1 id) rfl) rfl (Nat.le_of_ble_eq_true rfl) ⟨Nat.le_of_ble_eq_true rfl, Nat.le_of_ble_eq_true rfl⟩ ⟨zfit (k := 2) (z := 9) rfl rfl (by omega), zfit (k := 19) (z := 77) rfl rfl (by omega)⟩ dX7_inverse_5) ⟨zad (k := 2) rfl (by omega), zad (k := 19) rfl (by omega)⟩ hS (fun _ z => z.elim) (fun r H6 locs hp hF hS1 => ?_)
  obtain ⟨qe4, rfl, re5, hN⟩ := hp
  obtain ⟨hP, hD⟩ := zjn hP hD hS.1 hF hN
  have hP : va_P G.1 zCl ([(qe1, zOb 6 [.ref g, .ref re2, .ref x]), (re2, zI G n (cjV p kd v)), (qe4, zOb 6 [.ref g, .ref re5, .ref x]), (re5, zI G n (tmV p n sg v (cjV p kd v)))]) H6 := hP
  have hD : va_D (zA M0 H0) ([(qe1, zOb 6 [.ref g, .ref re2, .ref x]), (re2, zI G n (cjV p kd v)), (qe4, zOb 6 [.ref g, .ref re5, .ref x]), (re5, zI G n (tmV p n sg v (cjV p kd v)))]) := hD
  have hS := hS1
  refine lv_astore_n (lv' := [(1, .ref qe4), (0, .ref a)]) hx hb dX7_inverse_8 rfl hl (by decide) rfl (fun ls hl => ?_)
  refine lv_aload_n hx hb dX7_inverse_9 rfl (lv_at hl 0 rfl) ?_
  refine z_go 4 38 (z_runV (As := []) (rest := []) hC hml hl.1 (m_X7_isPlain hE H6 (hO.ext0 (zS_F hS)) x g p d n kd dv sg qe4 re5 (tmV p n sg v (cjV p kd v))  (hA.ext0 (zS_F hS)) ⟨hP 2 _ rfl, hP 3 _ rfl⟩ (tmV_ok hp n sg _ _) ) (lw_V q257 q258 q259 q92 q260) rfl nd_X7_isPlain rfl (z_rv hC (ci := 6) rfl (hP 2 _ rfl) rfl) rfl (Nat.le_of_ble_eq_true rfl) ⟨Nat.le_of_ble_eq_true rfl, Nat.le_of_ble_eq_true rfl⟩ ⟨zfit (k := 0) (z := 9) rfl rfl (by omega), zfit (k := 0) (z := 77) rfl rfl (by omega)⟩ dX7_inverse_10) ⟨zad (k := 0) rfl (by omega), zad (k := 0) rfl (by omega)⟩ hS (fun _ z => z.elim) (fun r H7 locs hp hF hS1 => ?_)
  obtain ⟨_, rfl, rfl⟩ := hp
  have hP := zpk hP hF
  have hP : va_P G.1 zCl ([(qe1, zOb 6 [.ref g, .ref re2, .ref x]), (re2, zI G n (cjV p kd v)), (qe4, zOb 6 [.ref g, .ref re5, .ref x]), (re5, zI G n (tmV p n sg v (cjV p kd v)))]) H7 := hP
  have hD : va_D (zA M0 H0) ([(qe1, zOb 6 [.ref g, .ref re2, .ref x]), (re2, zI G n (cjV p kd v)), (qe4, zOb 6 [.ref g, .ref re5, .ref x]), (re5, zI G n (tmV p n sg v (cjV p kd v)))]) := hD
  have hS := hS1
  have hi0 := tmV_ok hp n sg v (cjV p kd v) 0 (by omega)
  refine z_zeq (tgt := 49) hx hb dX7_inverse_13 (by decide) (by unfold b2i; split <;> omega) (fun cp => ?_) (fun cp => ?_)
  · refine z_go 4 38 (z_runS (As := []) (rest := []) hC hml hl.1 (m_J20_empty hE H7 (hO.ext0 (zS_F hS))  ) (lw_S q1223 q1224 q94 q1225) nd_J20_empty rfl rfl (Nat.le_of_ble_eq_true rfl) ⟨Nat.le_of_ble_eq_true rfl, Nat.le_of_ble_eq_true rfl⟩ ⟨zfit (k := 0) (z := 9) rfl rfl (by omega), zfit (k := 0) (z := 77) rfl rfl (by omega)⟩ dX7_inverse_49) ⟨zad (k := 0) rfl (by omega), zad (k := 0) rfl (by omega)⟩ hS (fun _ z => z.elim) (fun r H8 locs hp hF hS1 => ?_)
    obtain ⟨_, rfl, rfl⟩ := hp
    have hP := zpk hP hF
    have hP : va_P G.1 zCl ([(qe1, zOb 6 [.ref g, .ref re2, .ref x]), (re2, zI G n (cjV p kd v)), (qe4, zOb 6 [.ref g, .ref re5, .ref x]), (re5, zI G n (tmV p n sg v (cjV p kd v)))]) H8 := hP
    have hD : va_D (zA M0 H0) ([(qe1, zOb 6 [.ref g, .ref re2, .ref x]), (re2, zI G n (cjV p kd v)), (qe4, zOb 6 [.ref g, .ref re5, .ref x]), (re5, zI G n (tmV p n sg v (cjV p kd v)))]) := hD
    have hS := hS1
    exact z_aret hC hrt hlk hQ hS ⟨zle (z := 9) rfl (by omega), zle (z := 77) rfl (by omega)⟩ ⟨_, rfl, Or.inr ⟨fun z => absurd z.1 (by rw [b2i_z cp]; decide), rfl⟩⟩ dX7_inverse_52
  · refine lv_aload_n hx hb dX7_inverse_16 rfl (lv_at hl 0 rfl) ?_
    refine z_go 4 38 (z_runV (As := []) (rest := []) hC hml hl.1 (m_X7_isZero hE H7 (hO.ext0 (zS_F hS)) x g p d n kd dv sg qe4 re5 (tmV p n sg v (cjV p kd v))  (hA.ext0 (zS_F hS)) ⟨hP 2 _ rfl, hP 3 _ rfl⟩ (tmV_ok hp n sg _ _) ) (lw_V q508 q509 q510 q92 q511) rfl nd_X7_isZero rfl (z_rv hC (ci := 6) rfl (hP 2 _ rfl) rfl) rfl (Nat.le_of_ble_eq_true rfl) ⟨Nat.le_of_ble_eq_true rfl, Nat.le_of_ble_eq_true rfl⟩ ⟨zfit (k := 0) (z := 9) rfl rfl (by omega), zfit (k := 0) (z := 77) rfl rfl (by omega)⟩ dX7_inverse_17) ⟨zad (k := 0) rfl (by omega), zad (k := 0) rfl (by omega)⟩ hS (fun _ z => z.elim) (fun r H9 locs hp hF hS1 => ?_)
    obtain ⟨_, rfl, rfl⟩ := hp
    have hP := zpk hP hF
    have hP : va_P G.1 zCl ([(qe1, zOb 6 [.ref g, .ref re2, .ref x]), (re2, zI G n (cjV p kd v)), (qe4, zOb 6 [.ref g, .ref re5, .ref x]), (re5, zI G n (tmV p n sg v (cjV p kd v)))]) H9 := hP
    have hD : va_D (zA M0 H0) ([(qe1, zOb 6 [.ref g, .ref re2, .ref x]), (re2, zI G n (cjV p kd v)), (qe4, zOb 6 [.ref g, .ref re5, .ref x]), (re5, zI G n (tmV p n sg v (cjV p kd v)))]) := hD
    have hS := hS1
    refine z_zne (tgt := 49) hx hb dX7_inverse_20 (by decide) (by unfold b2i; split <;> omega) (fun cz => ?_) (fun cz => ?_)
    · refine z_go 4 38 (z_runS (As := []) (rest := []) hC hml hl.1 (m_J20_empty hE H9 (hO.ext0 (zS_F hS))  ) (lw_S q1223 q1224 q94 q1225) nd_J20_empty rfl rfl (Nat.le_of_ble_eq_true rfl) ⟨Nat.le_of_ble_eq_true rfl, Nat.le_of_ble_eq_true rfl⟩ ⟨zfit (k := 0) (z := 9) rfl rfl (by omega), zfit (k := 0) (z := 77) rfl rfl (by omega)⟩ dX7_inverse_49) ⟨zad (k := 0) rfl (by omega), zad (k := 0) rfl (by omega)⟩ hS (fun _ z => z.elim) (fun r H10 locs hp hF hS1 => ?_)
      obtain ⟨_, rfl, rfl⟩ := hp
      have hP := zpk hP hF
      have hP : va_P G.1 zCl ([(qe1, zOb 6 [.ref g, .ref re2, .ref x]), (re2, zI G n (cjV p kd v)), (qe4, zOb 6 [.ref g, .ref re5, .ref x]), (re5, zI G n (tmV p n sg v (cjV p kd v)))]) H10 := hP
      have hD : va_D (zA M0 H0) ([(qe1, zOb 6 [.ref g, .ref re2, .ref x]), (re2, zI G n (cjV p kd v)), (qe4, zOb 6 [.ref g, .ref re5, .ref x]), (re5, zI G n (tmV p n sg v (cjV p kd v)))]) := hD
      have hS := hS1
      exact z_aret hC hrt hlk hQ hS ⟨zle (z := 9) rfl (by omega), zle (z := 77) rfl (by omega)⟩ ⟨_, rfl, Or.inr ⟨fun z => absurd z.2 (by rw [b2i_nz cz]; decide), rfl⟩⟩ dX7_inverse_52
    · have hi1 := pa_nz (b2i_nz cp) (b2i_z cz)
      have hiv := iv_in hp (md_nz (z := tmV p n sg v (cjV p kd v) 0) ⟨by omega, hi0.2⟩)
      refine lv_aload_n hx hb dX7_inverse_23 rfl (lv_at hl 1 rfl) ?_
      refine z_go 6 57 (z_runV (As := []) (rest := []) hC hml hl.1 (m_X7_conjugate hE H9 (hO.ext0 (zS_F hS)) x g p d n kd dv sg a r (v)  (hA.ext0 (zS_F hS)) (h.ext0 (zS_F hS)) hv ) (lw_V q311 q312 q313 q92 q314) rfl nd_X7_conjugate rfl (z_rv hC (ci := 6) rfl (zo hS h.1 id) rfl) rfl (Nat.le_of_ble_eq_true rfl) ⟨Nat.le_of_ble_eq_true rfl, Nat.le_of_ble_eq_true rfl⟩ ⟨zfit (k := 2) (z := 9) rfl rfl (by omega), zfit (k := 19) (z := 77) rfl rfl (by omega)⟩ dX7_inverse_24) ⟨zad (k := 2) rfl (by omega), zad (k := 19) rfl (by omega)⟩ hS (fun _ z => z.elim) (fun r H13 locs hp hF hS1 => ?_)
      obtain ⟨qe11, rfl, re12, hN⟩ := hp
      obtain ⟨hP, hD⟩ := zjn hP hD hS.1 hF hN
      have hP : va_P G.1 zCl ([(qe1, zOb 6 [.ref g, .ref re2, .ref x]), (re2, zI G n (cjV p kd v)), (qe4, zOb 6 [.ref g, .ref re5, .ref x]), (re5, zI G n (tmV p n sg v (cjV p kd v))), (qe11, zOb 6 [.ref g, .ref re12, .ref x]), (re12, zI G n (cjV p kd v))]) H13 := hP
      have hD : va_D (zA M0 H0) ([(qe1, zOb 6 [.ref g, .ref re2, .ref x]), (re2, zI G n (cjV p kd v)), (qe4, zOb 6 [.ref g, .ref re5, .ref x]), (re5, zI G n (tmV p n sg v (cjV p kd v))), (qe11, zOb 6 [.ref g, .ref re12, .ref x]), (re12, zI G n (cjV p kd v))]) := hD
      have hS := hS1
      refine lv_aload_n hx hb dX7_inverse_27 rfl (lv_at hl 1 rfl) ?_
      refine z_get hC (k := 2) rfl in_X7 (zo hS h.1 id) (by decide) q326 (fun _ h => h) rfl dX7_inverse_28 ?_
      refine lv_aload_n hx hb dX7_inverse_31 rfl (lv_at hl 0 rfl) ?_
      refine z_get hC (k := 1) rfl in_X7 (hP 2 _ rfl) (by decide) q324 (fun _ h => h) rfl dX7_inverse_32 ?_
      refine lv_iconst (v := iI 0) hx hb dX7_inverse_35 rfl ?_
      refine z_iald hC (hP 3 _ rfl) (k := 0) rfl (by omega) (y := (tmV p n sg v (cjV p kd v)) 0) rfl dX7_inverse_36 ?_
      refine z_go 6 57 (z_runVN (As := [.int (iI ((tmV p n sg v (cjV p kd v)) 0))]) (rest := [.ref qe11]) hC hml hl.1 (m_X1_inverseOf hE H13 (hO.ext0 (zS_F hS)) x la le dr p kn sm (tmV p n sg v (cjV p kd v) 0) (zo hS hx0 id) hp (md_nz ⟨by omega, hi0.2⟩) (by omega)) q544 q62 q541 q543 qs18 nd_X1_inverseOf rfl (z_rv hC (ci := 0) rfl (zo hS hx0 id) rfl) rfl (Nat.le_of_ble_eq_true rfl) ⟨Nat.le_of_ble_eq_true rfl, Nat.le_of_ble_eq_true rfl⟩ ⟨zfit (k := 0) (z := 9) rfl rfl (by omega), zfit (k := 0) (z := 77) rfl rfl (by omega)⟩ dX7_inverse_37) ⟨zad (k := 0) rfl (by omega), zad (k := 0) rfl (by omega)⟩ hS (fun _ z => z.elim) (fun r H14 locs hp hF hS1 => ?_)
      obtain ⟨_, rfl, rfl⟩ := hp
      have hP := zpk hP hF
      have hP : va_P G.1 zCl ([(qe1, zOb 6 [.ref g, .ref re2, .ref x]), (re2, zI G n (cjV p kd v)), (qe4, zOb 6 [.ref g, .ref re5, .ref x]), (re5, zI G n (tmV p n sg v (cjV p kd v))), (qe11, zOb 6 [.ref g, .ref re12, .ref x]), (re12, zI G n (cjV p kd v))]) H14 := hP
      have hD : va_D (zA M0 H0) ([(qe1, zOb 6 [.ref g, .ref re2, .ref x]), (re2, zI G n (cjV p kd v)), (qe4, zOb 6 [.ref g, .ref re5, .ref x]), (re5, zI G n (tmV p n sg v (cjV p kd v))), (qe11, zOb 6 [.ref g, .ref re12, .ref x]), (re12, zI G n (cjV p kd v))]) := hD
      have hS := hS1
      refine z_go 8 76 (z_runV (As := [.int (iI (ivS p (tmV p n sg v (cjV p kd v) 0)))]) (rest := []) hC hml hl.1 (m_X7_times_2 hE H14 (hO.ext0 (zS_F hS)) x g p d n kd dv sg qe11 re12 (cjV p kd v) (ivS p (tmV p n sg v (cjV p kd v) 0)) (hA.ext0 (zS_F hS)) ⟨hP 4 _ rfl, hP 5 _ rfl⟩ (cjV_ok hp n kd _) (by omega)) (lw_V q1206 q1173 q1174 q92 q1175) rfl nd_X7_times_2 rfl (z_rv hC (ci := 6) rfl (hP 4 _ rfl) rfl) rfl (Nat.le_of_ble_eq_true rfl) ⟨Nat.le_of_ble_eq_true rfl, Nat.le_of_ble_eq_true rfl⟩ ⟨zfit (k := 2) (z := 9) rfl rfl (by omega), zfit (k := 19) (z := 77) rfl rfl (by omega)⟩ dX7_inverse_40) ⟨zad (k := 2) rfl (by omega), zad (k := 19) rfl (by omega)⟩ hS (fun _ z => z.elim) (fun r H17 locs hp hF hS1 => ?_)
      obtain ⟨qe15, rfl, re16, hN⟩ := hp
      obtain ⟨hP, hD⟩ := zjn hP hD hS.1 hF hN
      have hP : va_P G.1 zCl ([(qe1, zOb 6 [.ref g, .ref re2, .ref x]), (re2, zI G n (cjV p kd v)), (qe4, zOb 6 [.ref g, .ref re5, .ref x]), (re5, zI G n (tmV p n sg v (cjV p kd v))), (qe11, zOb 6 [.ref g, .ref re12, .ref x]), (re12, zI G n (cjV p kd v)), (qe15, zOb 6 [.ref g, .ref re16, .ref x]), (re16, zI G n (scV p (ivS p (tmV p n sg v (cjV p kd v) 0)) (cjV p kd v)))]) H17 := hP
      have hD : va_D (zA M0 H0) ([(qe1, zOb 6 [.ref g, .ref re2, .ref x]), (re2, zI G n (cjV p kd v)), (qe4, zOb 6 [.ref g, .ref re5, .ref x]), (re5, zI G n (tmV p n sg v (cjV p kd v))), (qe11, zOb 6 [.ref g, .ref re12, .ref x]), (re12, zI G n (cjV p kd v)), (qe15, zOb 6 [.ref g, .ref re16, .ref x]), (re16, zI G n (scV p (ivS p (tmV p n sg v (cjV p kd v) 0)) (cjV p kd v)))]) := hD
      have hS := hS1
      refine z_go 9 77 (z_runS (As := [.ref qe15]) (rest := []) hC hml hl.1 (m_J20_of hE H17 (hO.ext0 (zS_F hS)) qe15 ) (lw_S q1207 q1208 q94 q1209) nd_J20_of rfl rfl (Nat.le_of_ble_eq_true rfl) ⟨Nat.le_of_ble_eq_true rfl, Nat.le_of_ble_eq_true rfl⟩ ⟨zfit (k := 1) (z := 9) rfl rfl (by omega), zfit (k := 1) (z := 77) rfl rfl (by omega)⟩ dX7_inverse_43) ⟨zad (k := 1) rfl (by omega), zad (k := 1) rfl (by omega)⟩ hS (fun _ z => z.elim) (fun r H19 locs hp hF hS1 => ?_)
      obtain ⟨qo18, rfl, hN⟩ := hp
      obtain ⟨hP, hD⟩ := zjn hP hD hS.1 hF hN
      have hP : va_P G.1 zCl ([(qe1, zOb 6 [.ref g, .ref re2, .ref x]), (re2, zI G n (cjV p kd v)), (qe4, zOb 6 [.ref g, .ref re5, .ref x]), (re5, zI G n (tmV p n sg v (cjV p kd v))), (qe11, zOb 6 [.ref g, .ref re12, .ref x]), (re12, zI G n (cjV p kd v)), (qe15, zOb 6 [.ref g, .ref re16, .ref x]), (re16, zI G n (scV p (ivS p (tmV p n sg v (cjV p kd v) 0)) (cjV p kd v))), (qo18, zOb 10 [.ref qe15])]) H19 := hP
      have hD : va_D (zA M0 H0) ([(qe1, zOb 6 [.ref g, .ref re2, .ref x]), (re2, zI G n (cjV p kd v)), (qe4, zOb 6 [.ref g, .ref re5, .ref x]), (re5, zI G n (tmV p n sg v (cjV p kd v))), (qe11, zOb 6 [.ref g, .ref re12, .ref x]), (re12, zI G n (cjV p kd v)), (qe15, zOb 6 [.ref g, .ref re16, .ref x]), (re16, zI G n (scV p (ivS p (tmV p n sg v (cjV p kd v) 0)) (cjV p kd v))), (qo18, zOb 10 [.ref qe15])]) := hD
      have hS := hS1
      refine lv_goto (tgt := 52) hx hb dX7_inverse_46 (by decide) ?_
      exact z_aret hC hrt hlk hQ hS ⟨zle (z := 9) rfl (by omega), zle (z := 77) rfl (by omega)⟩ ⟨_, rfl, Or.inl ⟨⟨b2i_nz cp, b2i_z cz⟩, _, _, hP.sub [8, 6, 7] rfl, zdn (hD.sub [8, 6, 7] (by decide) rfl)⟩⟩ dX7_inverse_52

abbrev rm_m_X7_series : Room := { frames := 5, cells := 220, slots := 2200, locals := 110 }
set_option maxHeartbeats 4000000 in
theorem m_X7_series {l : Launch} {s0 : State} {G : zG} (hE : zE l s0 G) (H0 : Heap) (hO : zO s0 H0) (x g : Nat) (p : Int) (d n kd : Nat) (dv : Nat → Int) (sg : Nat → Nat → Int) (a r : Nat) (v : Nat → Int) (hA : zAg G x g p d n kd dv sg H0) (h : zEl G x g a r n v H0) (hv : rw_ok p n v) : zM l s0 yX7_series cX7_series 5 (some (FieldType.object "java/util/Optional")) rm_m_X7_series [.ref a] H0 M0 (rr (fun q h1 => ((enV p n sg v ≠ -1) ∧ ∃ a1 r1 : Nat, NW G H0 h1 [(q, zOb 10 [.ref a1]), (a1, zOb 6 [.ref g, .ref r1, .ref x]), (r1, zI G n (suV p n sg v (enV p n sg v).toNat))]) ∨ (¬ (enV p n sg v ≠ -1) ∧ q = G.2 13))) := by
  refine z_met hE (by decide +kernel) (Nat.le_of_ble_eq_true rfl) ?_
  intro pp ee ss mm args below meth cd Q ls hC hml hrt hlk hnm hH hQ hS hl
  have hx := hC.x
  have hb := hC.b
  have hl : lv_has ls 5 [(0, .ref a)] := hl
  have hP : va_P G.1 zCl [] H0 := va_nil
  have hD : va_D (zA M0 H0) [] := va_nilD
  obtain ⟨la, le, dr, kn, sm, dl, da, ml, so, dm, ro, hx0, hg0, hL0, hso, hro, hfa⟩ := id hA
  obtain ⟨hp, hd4, hn2, hkd, hdv, hsg⟩ := hfa
  obtain ⟨hn16, hp7⟩ := hA.n
  refine lv_aload_n hx hb dX7_series_0 rfl (lv_at hl 0 rfl) ?_
  refine lv_aload_n hx hb dX7_series_1 rfl (lv_at hl 0 rfl) ?_
  refine z_get hC (k := 2) rfl in_X7 (zo hS h.1 id) (by decide) q326 (fun _ h => h) rfl dX7_series_2 ?_
  refine z_getn hC (k := 0) rfl in_X1 (zo hS hx0 id) (by decide) q151 (fun _ h => h) rfl dX7_series_5 ?_
  refine z_top (b := ((p.toNat : Nat) : Int)) (by omega) ?_
  refine lv_iconst (v := iI 0) hx hb dX7_series_8 rfl ?_
  refine z_go 124 1220 (z_runV (As := [.int (iI ((p.toNat : Nat) : Int)), .int (iI 0)]) (rest := []) hC hml hl.1 (m_X7_firstPower hE H0 (hO.ext0 (zS_F hS)) x g p d n kd dv sg a r v p.toNat 0 (hA.ext0 (zS_F hS)) (h.ext0 (zS_F hS)) hv (by omega) (by omega)) (lw_V q1250 q501 q502 q92 q503) rfl nd_X7_firstPower rfl (z_rv hC (ci := 6) rfl (zo hS h.1 id) rfl) rfl (Nat.le_of_ble_eq_true rfl) ⟨Nat.le_of_ble_eq_true rfl, Nat.le_of_ble_eq_true rfl⟩ ⟨zfit (k := 124) (z := 220) rfl rfl (by omega), zfit (k := 1220) (z := 2200) rfl rfl (by omega)⟩ dX7_series_9) ⟨zad (k := 124) rfl (by omega), zad (k := 1220) rfl (by omega)⟩ hS (fun _ z => z.elim) (fun r H1 locs hp hF hS1 => ?_)
  obtain ⟨_, rfl, rfl⟩ := hp
  have hP := zpk hP hF
  have hP : va_P G.1 zCl ([]) H1 := hP
  have hD : va_D (zA M0 H0) ([]) := hD
  have hS := hS1
  have hen : enV p n sg v = -1 ∨ (((1 : Nat) : Int) ≤ enV p n sg v ∧ enV p n sg v < ((1 : Nat) : Int) + p.toNat) := fst_in _ _ _
  refine lv_istore_n (lv' := [(1, .int (iI (enV p n sg v))), (0, .ref a)]) hx hb dX7_series_12 rfl hl (by decide) rfl (fun ls hl => ?_)
  refine lv_iload_n hx hb dX7_series_13 rfl (lv_at hl 0 rfl) ?_
  refine lv_iconst (v := iI (-1)) hx hb dX7_series_14 rfl ?_
  refine z_cne (tgt := 22) hx hb dX7_series_15 (by decide) (by omega) (fun c2 => ?_) (fun c2 => ?_)
  · obtain ⟨N0, hN0⟩ : ∃ N0 : Nat, enV p n sg v = N0 := ⟨(enV p n sg v).toNat, by omega⟩
    rw [hN0] at hl
    refine z_new hC hP hD hS (c1 := 125) (s1 := 1223) (fs := [.null, .null, .null]) (ci := 6) rfl in_X7 tyX7_ok q315 q316 q92 df_X7 ⟨zle (z := 220) rfl (by omega), zle (z := 2200) rfl (by omega)⟩ ⟨by omega, by omega⟩ (ws' := fun q3 => [(q3, zOb 6 [.null, .null, .null])]) (fun _ => rfl) dX7_series_22 (fun q3 H4 hq0q3 hq1q3 hP hD hS hF => ?_)
    refine lv_dup hx hb dX7_series_25 rfl ?_
    refine lv_aload_n hx hb dX7_series_26 rfl (lv_at hl 1 rfl) ?_
    refine z_get hC (k := 2) rfl in_X7 (zo hS h.1 id) (by decide) q326 (fun _ h => h) rfl dX7_series_27 ?_
    refine lv_aload_n hx hb dX7_series_30 rfl (lv_at hl 1 rfl) ?_
    refine z_get hC (k := 0) rfl in_X7 (zo hS h.1 id) (by decide) q322 (fun _ h => h) rfl dX7_series_31 ?_
    refine z_go 126 1239 (z_runI (As := [.ref x, .ref g]) (rest := [.ref q3]) hC hml hl.1 (m_X7_init hE H4 (hO.ext0 (zS_F hS)) x g p d n kd dv sg q3 (Nat.le_trans hO.1 hq0q3) (hA.ext0 (zS_F hS)) (hP 0 _ rfl)) q319 q92 q317 q318 rfl nd_X7_init rfl rfl (Nat.le_of_ble_eq_true rfl) ⟨Nat.le_of_ble_eq_true rfl, Nat.le_of_ble_eq_true rfl⟩ ⟨zfit (k := 1) (z := 220) rfl rfl (by omega), zfit (k := 16) (z := 2200) rfl rfl (by omega)⟩ dX7_series_34) ⟨zad (k := 1) rfl (by omega), zad (k := 16) rfl (by omega)⟩ hS (fun q z => by subst z; exact hD.2 0 _ rfl) (fun r H5 locs hp hF hS1 => ?_)
    obtain ⟨rfl, rq3, hm, hN⟩ := hp
    obtain ⟨hP, hD⟩ := zjmn hP hD hS.1 hF 0 rfl hm hN
    have hP : va_P G.1 zCl ([(q3, zOb 6 [.ref g, .ref rq3, .ref x]), (rq3, zI G n (fun _ => 0))]) H5 := hP
    have hD : va_D (zA M0 H0) ([(q3, zOb 6 [.ref g, .ref rq3, .ref x]), (rq3, zI G n (fun _ => 0))]) := hD
    have hS := hS1
    refine lv_astore_n (lv' := [(2, .ref q3), (1, .int (iI ((N0 : Nat) : Int))), (0, .ref a)]) hx hb dX7_series_37 rfl hl (by decide) rfl (fun ls hl => ?_)
    refine lv_aload_n hx hb dX7_series_38 rfl (lv_at hl 2 rfl) ?_
    refine z_go 128 1258 (z_runV (As := []) (rest := []) hC hml hl.1 (m_X7_one hE H5 (hO.ext0 (zS_F hS)) x g p d n kd dv sg a r (v)  (hA.ext0 (zS_F hS)) (h.ext0 (zS_F hS)) hv ) (lw_V q504 q506 qs15 q92 q507) rfl nd_X7_one rfl (z_rv hC (ci := 6) rfl (zo hS h.1 id) rfl) rfl (Nat.le_of_ble_eq_true rfl) ⟨Nat.le_of_ble_eq_true rfl, Nat.le_of_ble_eq_true rfl⟩ ⟨zfit (k := 2) (z := 220) rfl rfl (by omega), zfit (k := 19) (z := 2200) rfl rfl (by omega)⟩ dX7_series_39) ⟨zad (k := 2) rfl (by omega), zad (k := 19) rfl (by omega)⟩ hS (fun _ z => z.elim) (fun r H8 locs hp hF hS1 => ?_)
    obtain ⟨qe6, rfl, re7, hN⟩ := hp
    obtain ⟨hP, hD⟩ := zjn hP hD hS.1 hF hN
    have hP : va_P G.1 zCl ([(q3, zOb 6 [.ref g, .ref rq3, .ref x]), (rq3, zI G n (fun _ => 0)), (qe6, zOb 6 [.ref g, .ref re7, .ref x]), (re7, zI G n oneV)]) H8 := hP
    have hD : va_D (zA M0 H0) ([(q3, zOb 6 [.ref g, .ref rq3, .ref x]), (rq3, zI G n (fun _ => 0)), (qe6, zOb 6 [.ref g, .ref re7, .ref x]), (re7, zI G n oneV)]) := hD
    have hS := hS1
    refine lv_astore_n (lv' := [(3, .ref qe6), (2, .ref q3), (1, .int (iI ((N0 : Nat) : Int))), (0, .ref a)]) hx hb dX7_series_42 rfl hl (by decide) rfl (fun ls hl => ?_)
    refine lv_iconst (v := iI 0) hx hb dX7_series_43 rfl ?_
    refine lv_istore (lv' := [(4, .int (iI 0)), (3, .ref qe6), (2, .ref q3), (1, .int (iI ((N0 : Nat) : Int))), (0, .ref a)]) hx hb dX7_series_44 hl (by decide) rfl (fun ls hl => ?_)
    have lp9 : ∀ (dlp9 : Nat) (k : Nat) (q3 : Nat) (r3 : Nat) (q4 : Nat) (r4 : Nat), N0 - k = dlp9 → (k ≤ N0) → ∀ (H10 : Heap) (locs : List Loc) (ls : Array Slot), va_P G.1 zCl ([(q3, zOb 6 [.ref g, .ref r3, .ref x]), (r3, zI G n (suV p n sg v k)), (q4, zOb 6 [.ref g, .ref r4, .ref x]), (r4, zI G n (ptV p n sg v k))]) H10 → va_D (zA M0 H0) ([(q3, zOb 6 [.ref g, .ref r3, .ref x]), (r3, zI G n (suV p n sg v k)), (q4, zOb 6 [.ref g, .ref r4, .ref x]), (r4, zI G n (ptV p n sg v k))]) → va_S (zA M0 H0) H0 H10 locs → lv_has ls 5 [(4, .int (iI ((k : Nat) : Int))), (3, .ref q4), (2, .ref q3), (1, .int (iI ((N0 : Nat) : Int))), (0, .ref a)] → W pp l ee rm_m_X7_series ss mm args below meth cd H10 locs (128 + 6 * k) (1258 + 57 * k) Q (F0 mm 46 ls []) := by
      intro dlp9
      induction dlp9 using Nat.strongRecOn with
      | ind dlp9 ihlp9 =>
        intro k q3 r3 q4 r4 hdlp9 hk H10 locs ls  hP hD hS hl
        refine lv_iload hx hb dX7_series_46 (lv_at hl 0 rfl) ?_
        refine lv_iload_n hx hb dX7_series_48 rfl (lv_at hl 3 rfl) ?_
        refine z_cge (tgt := 103) hx hb dX7_series_49 (by decide) (by omega) (fun c11 => ?_) (fun c11 => ?_)
        · have ek : (enV p n sg v).toNat = k := by omega
          have hP : va_P G.1 zCl ([(q3, zOb 6 [.ref g, .ref r3, .ref x]), (r3, zI G n (suV p n sg v (enV p n sg v).toNat)), (q4, zOb 6 [.ref g, .ref r4, .ref x]), (r4, zI G n (ptV p n sg v k))]) H10 := zcI hP 1 rfl (fun j _ => by rw [ek])
          have hD : va_D (zA M0 H0) ([(q3, zOb 6 [.ref g, .ref r3, .ref x]), (r3, zI G n (suV p n sg v (enV p n sg v).toNat)), (q4, zOb 6 [.ref g, .ref r4, .ref x]), (r4, zI G n (ptV p n sg v k))]) := hD.set (p := 1) rfl
          refine lv_aload_n hx hb dX7_series_103 rfl (lv_at hl 2 rfl) ?_
          refine z_go ((128 + 6 * k) + 1) ((1258 + 57 * k) + 1) (z_runS (As := [.ref q3]) (rest := []) hC hml hl.1 (m_J20_of hE H10 (hO.ext0 (zS_F hS)) q3 ) (lw_S q1207 q1208 q94 q1209) nd_J20_of rfl rfl (Nat.le_of_ble_eq_true rfl) ⟨Nat.le_of_ble_eq_true rfl, Nat.le_of_ble_eq_true rfl⟩ ⟨zfit (k := 1) (z := 220) rfl rfl (by omega), zfit (k := 1) (z := 2200) rfl rfl (by omega)⟩ dX7_series_104) ⟨zad (k := 1) rfl (by omega), zad (k := 1) rfl (by omega)⟩ hS (fun _ z => z.elim) (fun r H13 locs hp hF hS1 => ?_)
          obtain ⟨qo12, rfl, hN⟩ := hp
          obtain ⟨hP, hD⟩ := zjn hP hD hS.1 hF hN
          have hP : va_P G.1 zCl ([(q3, zOb 6 [.ref g, .ref r3, .ref x]), (r3, zI G n (suV p n sg v (enV p n sg v).toNat)), (q4, zOb 6 [.ref g, .ref r4, .ref x]), (r4, zI G n (ptV p n sg v k)), (qo12, zOb 10 [.ref q3])]) H13 := hP
          have hD : va_D (zA M0 H0) ([(q3, zOb 6 [.ref g, .ref r3, .ref x]), (r3, zI G n (suV p n sg v (enV p n sg v).toNat)), (q4, zOb 6 [.ref g, .ref r4, .ref x]), (r4, zI G n (ptV p n sg v k)), (qo12, zOb 10 [.ref q3])]) := hD
          have hS := hS1
          exact z_aret hC hrt hlk hQ hS ⟨zle (z := 220) rfl (by omega), zle (z := 2200) rfl (by omega)⟩ ⟨_, rfl, Or.inl ⟨by omega, _, _, hP.sub [4, 0, 1] rfl, zdn (hD.sub [4, 0, 1] (by decide) rfl)⟩⟩ dX7_series_107
        · refine lv_aload_n hx hb dX7_series_52 rfl (lv_at hl 2 rfl) ?_
          refine lv_aload_n hx hb dX7_series_53 rfl (lv_at hl 1 rfl) ?_
          refine lv_iconst (v := iI 1) hx hb dX7_series_54 rfl ?_
          refine z_go ((128 + 6 * k) + 2) ((1258 + 57 * k) + 19) (z_runV (As := [.ref q4, .int (iI 1)]) (rest := []) hC hml hl.1 (m_X7_plus hE H10 (hO.ext0 (zS_F hS)) x g p d n kd dv sg q3 r3 (suV p n sg v k) q4 r4 (ptV p n sg v k) 1 (hA.ext0 (zS_F hS)) ⟨hP 0 _ rfl, hP 1 _ rfl⟩ (suV_ok hp n sg v k) ⟨hP 2 _ rfl, hP 3 _ rfl⟩ (ptV_ok hp n sg v k) (by decide)) (lw_V q517 q518 q519 q92 q520) rfl nd_X7_plus rfl (z_rv hC (ci := 6) rfl (hP 0 _ rfl) rfl) rfl (Nat.le_of_ble_eq_true rfl) ⟨Nat.le_of_ble_eq_true rfl, Nat.le_of_ble_eq_true rfl⟩ ⟨zfit (k := 2) (z := 220) rfl rfl (by omega), zfit (k := 19) (z := 2200) rfl rfl (by omega)⟩ dX7_series_55) ⟨zad (k := 2) rfl (by omega), zad (k := 19) rfl (by omega)⟩ hS (fun _ z => z.elim) (fun r H16 locs hp hF hS1 => ?_)
          obtain ⟨qe14, rfl, re15, hN⟩ := hp
          obtain ⟨hP, hD⟩ := zjn hP hD hS.1 hF hN
          have hP : va_P G.1 zCl ([(q3, zOb 6 [.ref g, .ref r3, .ref x]), (r3, zI G n (suV p n sg v k)), (q4, zOb 6 [.ref g, .ref r4, .ref x]), (r4, zI G n (ptV p n sg v k)), (qe14, zOb 6 [.ref g, .ref re15, .ref x]), (re15, zI G n (plV p 1 (suV p n sg v k) (ptV p n sg v k)))]) H16 := hP
          have hD : va_D (zA M0 H0) ([(q3, zOb 6 [.ref g, .ref r3, .ref x]), (r3, zI G n (suV p n sg v k)), (q4, zOb 6 [.ref g, .ref r4, .ref x]), (r4, zI G n (ptV p n sg v k)), (qe14, zOb 6 [.ref g, .ref re15, .ref x]), (re15, zI G n (plV p 1 (suV p n sg v k) (ptV p n sg v k)))]) := hD
          have hS := hS1
          refine lv_astore_n (lv' := [(2, .ref qe14), (4, .int (iI ((k : Nat) : Int))), (3, .ref q4), (1, .int (iI ((N0 : Nat) : Int))), (0, .ref a)]) hx hb dX7_series_58 rfl hl (by decide) rfl (fun ls hl => ?_)
          refine lv_aload_n hx hb dX7_series_59 rfl (lv_at hl 2 rfl) ?_
          refine lv_aload_n hx hb dX7_series_60 rfl (lv_at hl 4 rfl) ?_
          refine z_go (((128 + 6 * k) + 2) + 2) (((1258 + 57 * k) + 19) + 19) (z_runV (As := [.ref a]) (rest := []) hC hml hl.1 (m_X7_times hE H16 (hO.ext0 (zS_F hS)) x g p d n kd dv sg q4 r4 (ptV p n sg v k) a r (v)  (hA.ext0 (zS_F hS)) ⟨hP 2 _ rfl, hP 3 _ rfl⟩ (ptV_ok hp n sg v k) (h.ext0 (zS_F hS)) hv ) (lw_V q359 q360 q361 q92 q362) rfl nd_X7_times rfl (z_rv hC (ci := 6) rfl (hP 2 _ rfl) rfl) rfl (Nat.le_of_ble_eq_true rfl) ⟨Nat.le_of_ble_eq_true rfl, Nat.le_of_ble_eq_true rfl⟩ ⟨zfit (k := 2) (z := 220) rfl rfl (by omega), zfit (k := 19) (z := 2200) rfl rfl (by omega)⟩ dX7_series_61) ⟨zad (k := 2) rfl (by omega), zad (k := 19) rfl (by omega)⟩ hS (fun _ z => z.elim) (fun r H19 locs hp hF hS1 => ?_)
          obtain ⟨qe17, rfl, re18, hN⟩ := hp
          obtain ⟨hP, hD⟩ := zjn hP hD hS.1 hF hN
          have hP : va_P G.1 zCl ([(q3, zOb 6 [.ref g, .ref r3, .ref x]), (r3, zI G n (suV p n sg v k)), (q4, zOb 6 [.ref g, .ref r4, .ref x]), (r4, zI G n (ptV p n sg v k)), (qe14, zOb 6 [.ref g, .ref re15, .ref x]), (re15, zI G n (plV p 1 (suV p n sg v k) (ptV p n sg v k))), (qe17, zOb 6 [.ref g, .ref re18, .ref x]), (re18, zI G n (tmV p n sg (ptV p n sg v k) v))]) H19 := hP
          have hD : va_D (zA M0 H0) ([(q3, zOb 6 [.ref g, .ref r3, .ref x]), (r3, zI G n (suV p n sg v k)), (q4, zOb 6 [.ref g, .ref r4, .ref x]), (r4, zI G n (ptV p n sg v k)), (qe14, zOb 6 [.ref g, .ref re15, .ref x]), (re15, zI G n (plV p 1 (suV p n sg v k) (ptV p n sg v k))), (qe17, zOb 6 [.ref g, .ref re18, .ref x]), (re18, zI G n (tmV p n sg (ptV p n sg v k) v))]) := hD
          have hS := hS1
          refine lv_aload_n hx hb dX7_series_64 rfl (lv_at hl 4 rfl) ?_
          refine z_get hC (k := 2) rfl in_X7 (zo hS h.1 id) (by decide) q326 (fun _ h => h) rfl dX7_series_65 ?_
          refine lv_iload hx hb dX7_series_68 (lv_at hl 1 rfl) ?_
          refine lv_iconst (v := iI 1) hx hb dX7_series_70 rfl ?_
          refine z_add hx hb (z := ((k : Nat) : Int) + 1) dX7_series_71 rfl ?_
          refine lv_aload_n hx hb dX7_series_72 rfl (lv_at hl 4 rfl) ?_
          refine z_get hC (k := 2) rfl in_X7 (zo hS h.1 id) (by decide) q326 (fun _ h => h) rfl dX7_series_73 ?_
          refine z_getn hC (k := 0) rfl in_X1 (zo hS hx0 id) (by decide) q151 (fun _ h => h) rfl dX7_series_76 ?_
          refine z_cne (tgt := 86) hx hb dX7_series_79 (by decide) (by omega) (fun c20 => ?_) (fun c20 => ?_)
          · refine lv_iload hx hb dX7_series_86 (lv_at hl 1 rfl) ?_
            refine lv_iconst (v := iI 1) hx hb dX7_series_88 rfl ?_
            refine z_add hx hb (z := ((k : Nat) : Int) + 1) dX7_series_89 rfl ?_
            have ez : ((k : Nat) : Int) + 1 = (if (k : Int) + 1 = p then 1 else (k : Int) + 1) := by rw [if_neg (by omega)]
            refine z_top (b := (if (k : Int) + 1 = p then 1 else (k : Int) + 1)) (ez) ?_
            have hiz : (if (k : Int) + 1 = p then 1 else (k : Int) + 1) % p ≠ 0 := md_nz (by split <;> omega)
            have hiv := iv_in hp hiz
            refine z_go (((128 + 6 * k) + 2) + 2) (((1258 + 57 * k) + 19) + 19) (z_runVN (As := [.int (iI (if (k : Int) + 1 = p then 1 else (k : Int) + 1))]) (rest := [.ref qe17]) hC hml hl.1 (m_X1_inverseOf hE H19 (hO.ext0 (zS_F hS)) x la le dr p kn sm (if (k : Int) + 1 = p then 1 else (k : Int) + 1) (zo hS hx0 id) hp hiz (by split <;> omega)) q544 q62 q541 q543 qs18 nd_X1_inverseOf rfl (z_rv hC (ci := 0) rfl (zo hS hx0 id) rfl) rfl (Nat.le_of_ble_eq_true rfl) ⟨Nat.le_of_ble_eq_true rfl, Nat.le_of_ble_eq_true rfl⟩ ⟨zfit (k := 0) (z := 220) rfl rfl (by omega), zfit (k := 0) (z := 2200) rfl rfl (by omega)⟩ dX7_series_90) ⟨zad (k := 0) rfl (by omega), zad (k := 0) rfl (by omega)⟩ hS (fun _ z => z.elim) (fun r H21 locs hp hF hS1 => ?_)
            obtain ⟨_, rfl, rfl⟩ := hp
            have hP := zpk hP hF
            have hP : va_P G.1 zCl ([(q3, zOb 6 [.ref g, .ref r3, .ref x]), (r3, zI G n (suV p n sg v k)), (q4, zOb 6 [.ref g, .ref r4, .ref x]), (r4, zI G n (ptV p n sg v k)), (qe14, zOb 6 [.ref g, .ref re15, .ref x]), (re15, zI G n (plV p 1 (suV p n sg v k) (ptV p n sg v k))), (qe17, zOb 6 [.ref g, .ref re18, .ref x]), (re18, zI G n (tmV p n sg (ptV p n sg v k) v))]) H21 := hP
            have hD : va_D (zA M0 H0) ([(q3, zOb 6 [.ref g, .ref r3, .ref x]), (r3, zI G n (suV p n sg v k)), (q4, zOb 6 [.ref g, .ref r4, .ref x]), (r4, zI G n (ptV p n sg v k)), (qe14, zOb 6 [.ref g, .ref re15, .ref x]), (re15, zI G n (plV p 1 (suV p n sg v k) (ptV p n sg v k))), (qe17, zOb 6 [.ref g, .ref re18, .ref x]), (re18, zI G n (tmV p n sg (ptV p n sg v k) v))]) := hD
            have hS := hS1
            refine z_go ((((128 + 6 * k) + 2) + 2) + 2) ((((1258 + 57 * k) + 19) + 19) + 19) (z_runV (As := [.int (iI (ivS p (if (k : Int) + 1 = p then 1 else (k : Int) + 1)))]) (rest := []) hC hml hl.1 (m_X7_times_2 hE H21 (hO.ext0 (zS_F hS)) x g p d n kd dv sg qe17 re18 (tmV p n sg (ptV p n sg v k) v) (ivS p (if (k : Int) + 1 = p then 1 else (k : Int) + 1)) (hA.ext0 (zS_F hS)) ⟨hP 6 _ rfl, hP 7 _ rfl⟩ (tmV_ok hp n sg _ _) (by omega)) (lw_V q1206 q1173 q1174 q92 q1175) rfl nd_X7_times_2 rfl (z_rv hC (ci := 6) rfl (hP 6 _ rfl) rfl) rfl (Nat.le_of_ble_eq_true rfl) ⟨Nat.le_of_ble_eq_true rfl, Nat.le_of_ble_eq_true rfl⟩ ⟨zfit (k := 2) (z := 220) rfl rfl (by omega), zfit (k := 19) (z := 2200) rfl rfl (by omega)⟩ dX7_series_93) ⟨zad (k := 2) rfl (by omega), zad (k := 19) rfl (by omega)⟩ hS (fun _ z => z.elim) (fun r H24 locs hp hF hS1 => ?_)
            obtain ⟨qe22, rfl, re23, hN⟩ := hp
            obtain ⟨hP, hD⟩ := zjn hP hD hS.1 hF hN
            have hP : va_P G.1 zCl ([(q3, zOb 6 [.ref g, .ref r3, .ref x]), (r3, zI G n (suV p n sg v k)), (q4, zOb 6 [.ref g, .ref r4, .ref x]), (r4, zI G n (ptV p n sg v k)), (qe14, zOb 6 [.ref g, .ref re15, .ref x]), (re15, zI G n (plV p 1 (suV p n sg v k) (ptV p n sg v k))), (qe17, zOb 6 [.ref g, .ref re18, .ref x]), (re18, zI G n (tmV p n sg (ptV p n sg v k) v)), (qe22, zOb 6 [.ref g, .ref re23, .ref x]), (re23, zI G n (scV p (ivS p (if (k : Int) + 1 = p then 1 else (k : Int) + 1)) (tmV p n sg (ptV p n sg v k) v)))]) H24 := hP
            have hD : va_D (zA M0 H0) ([(q3, zOb 6 [.ref g, .ref r3, .ref x]), (r3, zI G n (suV p n sg v k)), (q4, zOb 6 [.ref g, .ref r4, .ref x]), (r4, zI G n (ptV p n sg v k)), (qe14, zOb 6 [.ref g, .ref re15, .ref x]), (re15, zI G n (plV p 1 (suV p n sg v k) (ptV p n sg v k))), (qe17, zOb 6 [.ref g, .ref re18, .ref x]), (re18, zI G n (tmV p n sg (ptV p n sg v k) v)), (qe22, zOb 6 [.ref g, .ref re23, .ref x]), (re23, zI G n (scV p (ivS p (if (k : Int) + 1 = p then 1 else (k : Int) + 1)) (tmV p n sg (ptV p n sg v k) v)))]) := hD
            have hS := hS1
            refine lv_astore_n (lv' := [(3, .ref qe22), (2, .ref qe14), (4, .int (iI ((k : Nat) : Int))), (1, .int (iI ((N0 : Nat) : Int))), (0, .ref a)]) hx hb dX7_series_96 rfl hl (by decide) rfl (fun ls hl => ?_)
            refine z_iinc (z := ((k + 1 : Nat) : Int)) (lv' := [(4, .int (iI ((k + 1 : Nat) : Int))), (3, .ref qe22), (2, .ref qe14), (1, .int (iI ((N0 : Nat) : Int))), (0, .ref a)]) hx hb dX7_series_97 hl (k := 2) rfl (by omega) (by decide) rfl (fun ls hl => ?_)
            refine lv_goto (tgt := 46) hx hb dX7_series_100 (by decide) ?_
            exact W.widen (by omega) (by omega) (ihlp9 (N0 - (k + 1)) (by omega) (k + 1) qe14 re15 qe22 re23 rfl (by omega) _ _ _  (hP.sub [4, 5, 8, 9] rfl) (hD.sub [4, 5, 8, 9] (by decide) rfl) hS hl)
          · refine lv_iconst (v := iI 1) hx hb dX7_series_82 rfl ?_
            refine lv_goto (tgt := 90) hx hb dX7_series_83 (by decide) ?_
            have ez : 1 = (if (k : Int) + 1 = p then 1 else (k : Int) + 1) := by rw [if_pos (by omega)]
            refine z_top (b := (if (k : Int) + 1 = p then 1 else (k : Int) + 1)) (ez) ?_
            have hiz : (if (k : Int) + 1 = p then 1 else (k : Int) + 1) % p ≠ 0 := md_nz (by split <;> omega)
            have hiv := iv_in hp hiz
            refine z_go (((128 + 6 * k) + 2) + 2) (((1258 + 57 * k) + 19) + 19) (z_runVN (As := [.int (iI (if (k : Int) + 1 = p then 1 else (k : Int) + 1))]) (rest := [.ref qe17]) hC hml hl.1 (m_X1_inverseOf hE H19 (hO.ext0 (zS_F hS)) x la le dr p kn sm (if (k : Int) + 1 = p then 1 else (k : Int) + 1) (zo hS hx0 id) hp hiz (by split <;> omega)) q544 q62 q541 q543 qs18 nd_X1_inverseOf rfl (z_rv hC (ci := 0) rfl (zo hS hx0 id) rfl) rfl (Nat.le_of_ble_eq_true rfl) ⟨Nat.le_of_ble_eq_true rfl, Nat.le_of_ble_eq_true rfl⟩ ⟨zfit (k := 0) (z := 220) rfl rfl (by omega), zfit (k := 0) (z := 2200) rfl rfl (by omega)⟩ dX7_series_90) ⟨zad (k := 0) rfl (by omega), zad (k := 0) rfl (by omega)⟩ hS (fun _ z => z.elim) (fun r H25 locs hp hF hS1 => ?_)
            obtain ⟨_, rfl, rfl⟩ := hp
            have hP := zpk hP hF
            have hP : va_P G.1 zCl ([(q3, zOb 6 [.ref g, .ref r3, .ref x]), (r3, zI G n (suV p n sg v k)), (q4, zOb 6 [.ref g, .ref r4, .ref x]), (r4, zI G n (ptV p n sg v k)), (qe14, zOb 6 [.ref g, .ref re15, .ref x]), (re15, zI G n (plV p 1 (suV p n sg v k) (ptV p n sg v k))), (qe17, zOb 6 [.ref g, .ref re18, .ref x]), (re18, zI G n (tmV p n sg (ptV p n sg v k) v))]) H25 := hP
            have hD : va_D (zA M0 H0) ([(q3, zOb 6 [.ref g, .ref r3, .ref x]), (r3, zI G n (suV p n sg v k)), (q4, zOb 6 [.ref g, .ref r4, .ref x]), (r4, zI G n (ptV p n sg v k)), (qe14, zOb 6 [.ref g, .ref re15, .ref x]), (re15, zI G n (plV p 1 (suV p n sg v k) (ptV p n sg v k))), (qe17, zOb 6 [.ref g, .ref re18, .ref x]), (re18, zI G n (tmV p n sg (ptV p n sg v k) v))]) := hD
            have hS := hS1
            refine z_go ((((128 + 6 * k) + 2) + 2) + 2) ((((1258 + 57 * k) + 19) + 19) + 19) (z_runV (As := [.int (iI (ivS p (if (k : Int) + 1 = p then 1 else (k : Int) + 1)))]) (rest := []) hC hml hl.1 (m_X7_times_2 hE H25 (hO.ext0 (zS_F hS)) x g p d n kd dv sg qe17 re18 (tmV p n sg (ptV p n sg v k) v) (ivS p (if (k : Int) + 1 = p then 1 else (k : Int) + 1)) (hA.ext0 (zS_F hS)) ⟨hP 6 _ rfl, hP 7 _ rfl⟩ (tmV_ok hp n sg _ _) (by omega)) (lw_V q1206 q1173 q1174 q92 q1175) rfl nd_X7_times_2 rfl (z_rv hC (ci := 6) rfl (hP 6 _ rfl) rfl) rfl (Nat.le_of_ble_eq_true rfl) ⟨Nat.le_of_ble_eq_true rfl, Nat.le_of_ble_eq_true rfl⟩ ⟨zfit (k := 2) (z := 220) rfl rfl (by omega), zfit (k := 19) (z := 2200) rfl rfl (by omega)⟩ dX7_series_93) ⟨zad (k := 2) rfl (by omega), zad (k := 19) rfl (by omega)⟩ hS (fun _ z => z.elim) (fun r H28 locs hp hF hS1 => ?_)
            obtain ⟨qe26, rfl, re27, hN⟩ := hp
            obtain ⟨hP, hD⟩ := zjn hP hD hS.1 hF hN
            have hP : va_P G.1 zCl ([(q3, zOb 6 [.ref g, .ref r3, .ref x]), (r3, zI G n (suV p n sg v k)), (q4, zOb 6 [.ref g, .ref r4, .ref x]), (r4, zI G n (ptV p n sg v k)), (qe14, zOb 6 [.ref g, .ref re15, .ref x]), (re15, zI G n (plV p 1 (suV p n sg v k) (ptV p n sg v k))), (qe17, zOb 6 [.ref g, .ref re18, .ref x]), (re18, zI G n (tmV p n sg (ptV p n sg v k) v)), (qe26, zOb 6 [.ref g, .ref re27, .ref x]), (re27, zI G n (scV p (ivS p (if (k : Int) + 1 = p then 1 else (k : Int) + 1)) (tmV p n sg (ptV p n sg v k) v)))]) H28 := hP
            have hD : va_D (zA M0 H0) ([(q3, zOb 6 [.ref g, .ref r3, .ref x]), (r3, zI G n (suV p n sg v k)), (q4, zOb 6 [.ref g, .ref r4, .ref x]), (r4, zI G n (ptV p n sg v k)), (qe14, zOb 6 [.ref g, .ref re15, .ref x]), (re15, zI G n (plV p 1 (suV p n sg v k) (ptV p n sg v k))), (qe17, zOb 6 [.ref g, .ref re18, .ref x]), (re18, zI G n (tmV p n sg (ptV p n sg v k) v)), (qe26, zOb 6 [.ref g, .ref re27, .ref x]), (re27, zI G n (scV p (ivS p (if (k : Int) + 1 = p then 1 else (k : Int) + 1)) (tmV p n sg (ptV p n sg v k) v)))]) := hD
            have hS := hS1
            refine lv_astore_n (lv' := [(3, .ref qe26), (2, .ref qe14), (4, .int (iI ((k : Nat) : Int))), (1, .int (iI ((N0 : Nat) : Int))), (0, .ref a)]) hx hb dX7_series_96 rfl hl (by decide) rfl (fun ls hl => ?_)
            refine z_iinc (z := ((k + 1 : Nat) : Int)) (lv' := [(4, .int (iI ((k + 1 : Nat) : Int))), (3, .ref qe26), (2, .ref qe14), (1, .int (iI ((N0 : Nat) : Int))), (0, .ref a)]) hx hb dX7_series_97 hl (k := 2) rfl (by omega) (by decide) rfl (fun ls hl => ?_)
            refine lv_goto (tgt := 46) hx hb dX7_series_100 (by decide) ?_
            exact W.widen (by omega) (by omega) (ihlp9 (N0 - (k + 1)) (by omega) (k + 1) qe14 re15 qe26 re27 rfl (by omega) _ _ _  (hP.sub [4, 5, 8, 9] rfl) (hD.sub [4, 5, 8, 9] (by decide) rfl) hS hl)
    exact W.widen (by omega) (by omega) (lp9 _ 0 q3 rq3 qe6 re7 rfl (Nat.zero_le _) _ _ _  hP hD hS hl)
  · refine z_go 124 1220 (z_runS (As := []) (rest := []) hC hml hl.1 (m_J20_empty hE H1 (hO.ext0 (zS_F hS))  ) (lw_S q1223 q1224 q94 q1225) nd_J20_empty rfl rfl (Nat.le_of_ble_eq_true rfl) ⟨Nat.le_of_ble_eq_true rfl, Nat.le_of_ble_eq_true rfl⟩ ⟨zfit (k := 0) (z := 220) rfl rfl (by omega), zfit (k := 0) (z := 2200) rfl rfl (by omega)⟩ dX7_series_18) ⟨zad (k := 0) rfl (by omega), zad (k := 0) rfl (by omega)⟩ hS (fun _ z => z.elim) (fun r H29 locs hp hF hS1 => ?_)
    obtain ⟨_, rfl, rfl⟩ := hp
    have hP := zpk hP hF
    have hP : va_P G.1 zCl ([]) H29 := hP
    have hD : va_D (zA M0 H0) ([]) := hD
    have hS := hS1
    exact z_aret hC hrt hlk hQ hS ⟨zle (z := 220) rfl (by omega), zle (z := 2200) rfl (by omega)⟩ ⟨_, rfl, Or.inr ⟨fun z => z (by omega), rfl⟩⟩ dX7_series_21

