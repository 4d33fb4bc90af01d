/-! THE HOUSE: words that are run -/
set_option maxRecDepth 100000
/-- ints and references stand apart -/
theorem z_noAr2 {G : zG} {a b n : Nat} {v : Nat → Int} {f : Nat → Option Nat} {H : Heap} (h : zAt G a (zI G n v) H) (h2 : zAt G b (zR G 10 f) H) : a ≠ b := by
  intro e
  subst e
  have h1 : H[a]? = some (vp_cell (G.2 0) (n, .inl (fun j => iI (v j)))) := h
  have h3 : H[a]? = some (vp_cell (G.2 3) (10, .inr (.inr (.inr (.inr f))))) := h2
  rw [h1, vp_cell_i, vp_cell_q] at h3
  have h4 := Option.some.inj h3
  have h5 : (arrV (G.2 0) n (fun j => Value.int (iI (v j)))).slots.size = (arrV (G.2 3) 10 (fun j => va_rf (f j))).slots.size := by rw [h4]
  rw [arrV_size, arrV_size] at h5
  have h6 : (arrV (G.2 0) n (fun j => Value.int (iI (v j)))).slots[0]? = (arrV (G.2 3) 10 (fun j => va_rf (f j))).slots[0]? := by rw [h4]
  rw [arrV_read _ _ (by omega), arrV_read _ _ (by omega)] at h6
  cases hf : f 0 with
  | none => rw [hf] at h6; simp [va_rf] at h6
  | some q => rw [hf] at h6; simp [va_rf] at h6
/-- a pile of elements of the algebra K -/
def PIL (G : zG) (s0 : State) (ρ : Ro → Nat) (σ : St) (K lc n : Nat) (c : Nat → Nat) (arr : Nat) (md : Int) (r : Nat → Nat) (v : Nat → Nat → Int) (H : Heap) : Prop :=
  zLs G lc n c arr md H ∧ s0.heap.size ≤ lc ∧ (arr ≠ G.2 12 → s0.heap.size ≤ arr ∧ lc ≠ arr) ∧ ∀ i, i < n → zEl G (ρ (0, 0, 0)) (ρ (6, K, 0)) (c i) (r i) (St_n σ K) (v i) H ∧ rw_ok (St_p σ) (St_n σ K) (v i)
abbrev PM (G : zG) (lc arr : Nat) : Nat → Prop := fun z => z = lc ∨ (z = arr ∧ arr ≠ G.2 12)
section PIL
variable {l : Launch} {s0 : State} {G : zG} {ρ : Ro → Nat} {σ : St} {K lc n : Nat} {c : Nat → Nat} {arr : Nat} {md : Int} {r : Nat → Nat} {v : Nat → Nat → Int} {H H1 : Heap}
theorem PIL.ext0 (h : PIL G s0 ρ σ K lc n c arr md r v H) (hF : zF M0 H H1) : PIL G s0 ρ σ K lc n c arr md r v H1 := ⟨h.1.ext0 hF, h.2.1, h.2.2.1, fun i hi => ⟨(h.2.2.2 i hi).1.ext0 hF, (h.2.2.2 i hi).2⟩⟩
theorem PIL.el1 (hE : zE l s0 G) (hl : zLs G lc n c arr md H) {x g a rr k : Nat} {w : Nat → Int} (h : zEl G x g a rr k w H) (hF : zF (PM G lc arr) H H1) : zEl G x g a rr k w H1 := by
  have q1 : arr ≠ G.2 12 → zAt G arr (zR G 10 (lf n c)) H := fun z => (hl.2.resolve_left (fun w => z w.1)).2.2
  refine h.ext hF (fun z => z.elim ?_ ?_) (fun z => z.elim ?_ ?_)
  · exact z_noCls hE (ci := 6) (cj := 8) rfl rfl (by decide) h.1 hl.1
  · exact fun w => z_noArr hE (ci := 6) (t := 3) rfl h.1 rfl (q1 w.2) w.1
  · exact fun w => z_noArr hE (ci := 8) (t := 0) rfl hl.1 rfl h.2 w.symm
  · exact fun w => z_noAr2 h.2 (q1 w.2) w.1
theorem PIL.popd (hE : zE l s0 G) (h : PIL G s0 ρ σ K lc (n + 1) c arr md r v H) (hF : zF (PM G lc arr) H H1) {md1 : Int} (h1 : zLs G lc n c arr md1 H1) : PIL G s0 ρ σ K lc n c arr md1 r v H1 :=
  ⟨h1, h.2.1, h.2.2.1, fun i hi => ⟨PIL.el1 hE h.1 (h.2.2.2 i (by omega)).1 hF, (h.2.2.2 i (by omega)).2⟩⟩
theorem PIL.push (hE : zE l s0 G) (h : PIL G s0 ρ σ K lc n c arr md r v H) (hz : s0.heap.size ≤ H.size) (hF : zF (PM G lc arr) H H1) {md1 : Int} {arr1 x rx : Nat} {w : Nat → Int} (h1 : zLs G lc (n + 1) (va_up c n x) arr1 md1 H1) (hor : (arr1 = arr ∧ arr ≠ G.2 12) ∨ H.size ≤ arr1)
    (he : zEl G (ρ (0, 0, 0)) (ρ (6, K, 0)) x rx (St_n σ K) w H) (hw : rw_ok (St_p σ) (St_n σ K) w) : PIL G s0 ρ σ K lc (n + 1) (va_up c n x) arr1 md1 (va_up r n rx) (va_up v n w) H1 := by
  refine ⟨h1, h.2.1, fun z => ?_, fun i hi => ?_⟩
  · rcases hor with o | o
    · rw [o.1]; exact h.2.2.1 o.2
    · have := h.1.1.lt
      exact ⟨by omega, by omega⟩
  · by_cases e : i = n
    · subst e
      rw [va_up_self, va_up_self, va_up_self]
      exact ⟨PIL.el1 hE h.1 he hF, hw⟩
    · rw [va_up_ne _ _ e, va_up_ne _ _ e, va_up_ne _ _ e]
      exact ⟨PIL.el1 hE h.1 (h.2.2.2 i (by omega)).1 hF, (h.2.2.2 i (by omega)).2⟩
end PIL
/-- one digit of a word -/
def stp (σ : St) (K dg n : Nat) (v : Nat → Nat → Int) : Option (Nat × (Nat → Nat → Int)) :=
  if dg < 6 then (if dg < St_ne σ ∧ St_ea σ dg = K then some (n + 1, va_up v n (St_ev σ dg)) else none)
  else if dg = 9 then (if 1 ≤ n then some (n, va_up v (n - 1) (cjV (St_p σ) (St_kd σ K) (v (n - 1)))) else none)
  else if 2 ≤ n then some (n - 1, va_up v (n - 2) (if dg = 7 then tmV (St_p σ) (St_n σ K) (St_sg σ K) (v (n - 2)) (v (n - 1)) else plV (St_p σ) (if dg = 6 then 1 else -1) (v (n - 2)) (v (n - 1)))) else none
section STP
variable {σ : St} {K dg n : Nat} {v : Nat → Nat → Int}
theorem stp_e (h : dg < 6) (h2 : dg < St_ne σ ∧ St_ea σ dg = K) : stp σ K dg n v = some (n + 1, va_up v n (St_ev σ dg)) := by unfold stp; rw [if_pos h, if_pos h2]
theorem stp_e0 (h : dg < 6) (h2 : ¬ (dg < St_ne σ ∧ St_ea σ dg = K)) : stp σ K dg n v = none := by unfold stp; rw [if_pos h, if_neg h2]
theorem stp_0 (h : 6 ≤ dg) : stp σ K dg 0 v = none := by unfold stp; rw [if_neg (by omega)]; split; rw [if_neg (by omega)]; rw [if_neg (by omega)]
theorem stp_9 (h : dg = 9) : stp σ K dg (n + 1) v = some (n + 1, va_up v n (cjV (St_p σ) (St_kd σ K) (v n))) := by unfold stp; rw [if_neg (by omega), if_pos h, if_pos (by omega)]; rfl
theorem stp_1 (h : 6 ≤ dg) (h9 : dg ≠ 9) : stp σ K dg 1 v = none := by unfold stp; rw [if_neg (by omega), if_neg h9, if_neg (by omega)]
theorem stp_2 (h : 6 ≤ dg) (h9 : dg ≠ 9) : stp σ K dg (n + 1 + 1) v = some (n + 1, va_up v n (if dg = 7 then tmV (St_p σ) (St_n σ K) (St_sg σ K) (v n) (v (n + 1)) else plV (St_p σ) (if dg = 6 then 1 else -1) (v n) (v (n + 1)))) := by unfold stp; rw [if_neg (by omega), if_neg h9, if_pos (by omega)]; rfl
end STP
/-- a word, its last digit first -/
def rnV (σ : St) (K : Nat) : Nat → Nat → Nat → (Nat → Nat → Int) → Option (Nat × (Nat → Nat → Int))
  | 0, _, _, _ => none
  | f + 1, w, n, v => match stp σ K (w % 10) n v with
    | none => none
    | some s => if w / 10 = 0 then some s else rnV σ K f (w / 10) s.1 s.2
theorem rnV_none {σ : St} {K f w n : Nat} {v : Nat → Nat → Int} (h : stp σ K (w % 10) n v = none) : rnV σ K f w n v = none := by
  cases f with
  | zero => rfl
  | succ f => simp only [rnV]; rw [h]
theorem rnV_end {σ : St} {K f w n n2 : Nat} {v v2 : Nat → Nat → Int} (hf : 0 < f) (h : stp σ K (w % 10) n v = some (n2, v2)) (h0 : w / 10 = 0) : rnV σ K f w n v = some (n2, v2) := by
  cases f with
  | zero => omega
  | succ f => simp only [rnV]; rw [h]; simp only []; rw [if_pos h0]
theorem rnV_go {σ : St} {K f w n n2 : Nat} {v v2 : Nat → Nat → Int} (hf : 0 < f) (h : stp σ K (w % 10) n v = some (n2, v2)) (h0 : w / 10 ≠ 0) : rnV σ K f w n v = rnV σ K (f - 1) (w / 10) n2 v2 := by
  cases f with
  | zero => omega
  | succ f => simp only [rnV]; rw [h]; simp only []; rw [if_neg h0]; rfl
theorem stp_le {σ : St} {K dg n n2 : Nat} {v v2 : Nat → Nat → Int} (h : stp σ K dg n v = some (n2, v2)) : n2 ≤ n + 1 := by
  unfold stp at h
  split at h
  · split at h
    · cases h; omega
    · cases h
  · split at h
    · split at h
      · cases h; omega
      · cases h
    · split at h
      · cases h; omega
      · cases h
theorem pw10 {f w : Nat} (hf : 0 < f) (h : w < 10 ^ f) : w / 10 < 10 ^ (f - 1) := by
  cases f with
  | zero => omega
  | succ f => rw [Nat.pow_succ] at h; exact Nat.div_lt_of_lt_mul (by rw [Nat.mul_comm]; exact h)
theorem pw10_0 {f w : Nat} (h : w < 10 ^ f) (h0 : w / 10 ≠ 0) : 1 < f := by
  match f with
  | 0 => rw [Nat.pow_zero] at h; omega
  | 1 => rw [Nat.pow_one] at h; omega
  | f + 2 => omega
abbrev rm_m_X1_pop : Room := { frames := 7, cells := 1, slots := 6, locals := 110 }
set_option maxHeartbeats 4000000 in
theorem m_X1_pop {l : Launch} {s0 : State} {G : zG} (hE : zE l s0 G) (H0 : Heap) (hO : zO s0 H0) (lc n : Nat) (c : Nat → Nat) (arr : Nat) (md : Int) (hq : s0.heap.size ≤ lc) (ha : arr ≠ G.2 12 → s0.heap.size ≤ arr ∧ lc ≠ arr) (hL : zLs G lc n c arr md H0) (hel : ∀ k, n = k + 1 → ∃ fs : List Value, zAt G (c k) (zOb 6 fs) H0) : zMX l s0 yX1_pop cX1_pop 1 (some (FieldType.object "Versorhall$Element")) rm_m_X1_pop [.ref lc] H0 (PM G lc arr) (rr (fun q h1 => ∃ k, n = k + 1 ∧ q = c k ∧ zLs G lc k c arr (md + 1) h1)) (fun E _ => E = "java/lang/IllegalArgumentException" ∧ n = 0) := by
  refine z_metX hE (by decide +kernel) (Nat.le_of_ble_eq_true rfl) ?_
  intro pp ee ss mm args below meth cd Q ls hC hml hrt hlk hnm hH hQ hno hX hS hl
  have hx := hC.x
  have hb := hC.b
  have hl : lv_has ls 1 [(0, .ref lc)] := hl
  have hP : va_P G.1 zCl [] H0 := va_nil
  have hD : va_D (zA (PM G lc arr) H0) [] := va_nilD
  have hMo : ∀ z, PM G lc arr z → s0.heap.size ≤ z := fun z hz => hz.elim (fun w => w ▸ hq) (fun w => w.1 ▸ (ha w.2).1)
  have LL1 := hL
  refine lv_aload_n hx hb dX1_pop_0 rfl (lv_at hl 0 rfl) ?_
  refine z_go 0 0 (z_runV (As := []) (rest := []) hC hml hl.1 (m_J2_isEmpty hE H0 (hO.ext (zS_F hS) hMo) lc n c arr md LL1) (lw_V q225 q226 q227 q65 q228) rfl nd_J2_isEmpty rfl (z_rv hC (ci := 8) rfl LL1.1 rfl) rfl (Nat.le_of_ble_eq_true rfl) ⟨Nat.le_of_ble_eq_true rfl, Nat.le_of_ble_eq_true rfl⟩ ⟨zfit (k := 0) (z := 1) rfl rfl (by omega), zfit (k := 0) (z := 6) rfl rfl (by omega)⟩ dX1_pop_1) ⟨zad (k := 0) rfl (by omega), zad (k := 0) rfl (by omega)⟩ hS (fun _ z => z.elim) (fun r H1 locs hp hF hS1 => ?_)
  obtain ⟨_, rfl, rfl⟩ := hp
  have hP := zpk hP hF
  have hP : va_P G.1 zCl ([]) H1 := hP
  have hD : va_D (zA (PM G lc arr) H0) ([]) := hD
  have LL1 : zLs G lc n c arr md H1 := LL1.ext0 hF
  have hS := hS1
  refine z_zne (tgt := 11) hx hb dX1_pop_4 (by decide) (by split <;> omega) (fun ce => ?_) (fun ce => ?_)
  · have hn0 : n = 0 := by split at ce <;> omega
    refine lv_iconst (v := iI 0) hx hb dX1_pop_11 rfl ?_
    refine z_goX 1 6 (z_runSx (As := [.int (iI 0)]) (rest := []) hC hml hl.1 (m_X1_require hE H1 (hO.ext (zS_F hS) hMo) 0 (by decide)) (lw_S q905 q906 q62 q907) nd_X1_require rfl rfl (Nat.le_of_ble_eq_true rfl) ⟨Nat.le_of_ble_eq_true rfl, Nat.le_of_ble_eq_true rfl⟩ ⟨zfit (k := 1) (z := 1) rfl rfl (by omega), zfit (k := 6) (z := 6) rfl rfl (by omega)⟩ dX1_pop_12) ⟨zad (k := 1) rfl (by omega), zad (k := 6) rfl (by omega)⟩ hS (fun _ z => z.elim) (fun E ce q9 Hx2 locs hp hF hS1 hce hcv hcl => ?_) (fun r H3 locs hp hF hS1 => ?_)
    · exact z_out hno hlk hX hS1 ⟨zle (z := 1) rfl (by omega), zle (z := 6) rfl (by omega)⟩ hce hcv hcl (⟨hp.1, hn0⟩)
    exact (show False from by have h9 : (0 : Nat) = 1 := hp.2; omega).elim
  · obtain ⟨k, hk9⟩ : ∃ k, n = k + 1 := ⟨n - 1, by split at ce <;> omega⟩
    subst hk9
    refine lv_iconst (v := iI 1) hx hb dX1_pop_7 rfl ?_
    refine lv_goto (tgt := 12) hx hb dX1_pop_8 (by decide) ?_
    refine z_goX 1 6 (z_runSx (As := [.int (iI 1)]) (rest := []) hC hml hl.1 (m_X1_require hE H1 (hO.ext (zS_F hS) hMo) 1 (by decide)) (lw_S q905 q906 q62 q907) nd_X1_require rfl rfl (Nat.le_of_ble_eq_true rfl) ⟨Nat.le_of_ble_eq_true rfl, Nat.le_of_ble_eq_true rfl⟩ ⟨zfit (k := 1) (z := 1) rfl rfl (by omega), zfit (k := 6) (z := 6) rfl rfl (by omega)⟩ dX1_pop_12) ⟨zad (k := 1) rfl (by omega), zad (k := 6) rfl (by omega)⟩ hS (fun _ z => z.elim) (fun E ce q9 Hx4 locs hp hF hS1 hce hcv hcl => ?_) (fun r H5 locs hp hF hS1 => ?_)
    · exact z_out hno hlk hX hS1 ⟨zle (z := 1) rfl (by omega), zle (z := 6) rfl (by omega)⟩ hce hcv hcl (absurd hp.2 (by decide))
    obtain ⟨rfl, -⟩ := hp
    have hP := zpk hP hF
    have hP : va_P G.1 zCl ([]) H5 := hP
    have hD : va_D (zA (PM G lc arr) H0) ([]) := hD
    have LL1 : zLs G lc (k + 1) c arr md H5 := LL1.ext0 hF
    have hS := hS1
    have ha9 : arr ≠ G.2 12 := LL1.2.elim (fun z => absurd z.2 (by omega)) (fun z => z.2.1)
    have hn9 := LL1.n10
    obtain ⟨fs9, hel9⟩ := hel k rfl
    have hcn9 : ¬ PM G lc arr (c k) := fun z => z.elim (z_noCls hE (ci := 6) (cj := 8) rfl rfl (by decide) hel9 hL.1) (fun w => z_noArr hE (ci := 6) (t := 3) rfl hel9 rfl (hL.arr (by omega)) w.1)
    refine lv_aload_n hx hb dX1_pop_15 rfl (lv_at hl 0 rfl) ?_
    refine lv_aload_n hx hb dX1_pop_16 rfl (lv_at hl 0 rfl) ?_
    refine z_go 1 6 (z_runV (As := []) (rest := [.ref lc]) hC hml hl.1 (m_J2_size hE H5 (hO.ext (zS_F hS) hMo) lc (k + 1) c arr md LL1) (lw_V q229 q230 q231 q65 q232) rfl nd_J2_size rfl (z_rv hC (ci := 8) rfl LL1.1 rfl) rfl (Nat.le_of_ble_eq_true rfl) ⟨Nat.le_of_ble_eq_true rfl, Nat.le_of_ble_eq_true rfl⟩ ⟨zfit (k := 0) (z := 1) rfl rfl (by omega), zfit (k := 0) (z := 6) rfl rfl (by omega)⟩ dX1_pop_17) ⟨zad (k := 0) rfl (by omega), zad (k := 0) rfl (by omega)⟩ hS (fun _ z => z.elim) (fun r H6 locs hp hF hS1 => ?_)
    obtain ⟨_, rfl, rfl⟩ := hp
    have hP := zpk hP hF
    have hP : va_P G.1 zCl ([]) H6 := hP
    have hD : va_D (zA (PM G lc arr) H0) ([]) := hD
    have LL1 : zLs G lc (k + 1) c arr md H6 := LL1.ext0 hF
    have hS := hS1
    refine lv_iconst (v := iI 1) hx hb dX1_pop_20 rfl ?_
    refine z_sub hx hb (z := ((k + 1 : Nat) : Int) - 1) dX1_pop_21 rfl ?_
    refine z_top (b := ((k : Nat) : Int)) (by omega) ?_
    have hP : va_P G.1 zCl [(lc, zOb 8 [.int (iI md), .ref arr, .int (iI ((k + 1 : Nat) : Int))]), (arr, zR G 10 (lf (k + 1) c))] H6 := zP2 LL1.1 (LL1.arr (by omega))
    have hD : va_D (zA (PM G lc arr) H0) [(lc, zOb 8 [.int (iI md), .ref arr, .int (iI ((k + 1 : Nat) : Int))]), (arr, zR G 10 (lf (k + 1) c))] := zD2 (Or.inl (Or.inl rfl)) (Or.inl (Or.inr ⟨rfl, ha9⟩)) (ha ha9).2
    refine z_go 1 6 (z_runV (As := [.int (iI ((k : Nat) : Int))]) (rest := []) hC hml hl.1 (m_J2_remove hE H6 (hO.ext (zS_F hS) hMo) lc k c arr md hq (ha ha9).1 (ha ha9).2 (by omega) (hP 0 _ rfl) (hP 1 _ rfl)) (lw_V q1394 q1395 q1396 q65 q1397) rfl nd_J2_remove rfl (z_rv hC (ci := 8) rfl (hP 0 _ rfl) rfl) rfl (Nat.le_of_ble_eq_true rfl) ⟨Nat.le_of_ble_eq_true rfl, Nat.le_of_ble_eq_true rfl⟩ ⟨zfit (k := 0) (z := 1) rfl rfl (by omega), zfit (k := 0) (z := 6) rfl rfl (by omega)⟩ dX1_pop_22) ⟨zad (k := 0) rfl (by omega), zad (k := 0) rfl (by omega)⟩ hS (fun q z => z.elim (fun y => by rw [y]; exact hD.2 0 _ rfl) (fun y => by rw [y]; exact hD.2 1 _ rfl)) (fun r H7 locs hp hF hS1 => ?_)
    obtain ⟨_, rfl, rfl, hm1, hm2⟩ := hp
    obtain ⟨hP, hD⟩ := zjm2 hP hD hF 0 1 rfl rfl hm1 hm2
    have hP : va_P G.1 zCl ([(lc, zOb 8 [.int (iI (md + 1)), .ref arr, .int (iI ((k : Nat) : Int))]), (arr, zR G 10 (lf k c))]) H7 := hP
    have hD : va_D (zA (PM G lc arr) H0) ([(lc, zOb 8 [.int (iI (md + 1)), .ref arr, .int (iI ((k : Nat) : Int))]), (arr, zR G 10 (lf k c))]) := hD
    have hS := hS1
    refine z_cast hC (ci := 6) rfl (zo hS hel9 hcn9) rfl q220 dX1_pop_25 ?_
    exact z_aret hC hrt hlk hQ hS ⟨zle (z := 1) rfl (by omega), zle (z := 6) rfl (by omega)⟩ ⟨_, rfl, k, rfl, rfl, hP 0 _ rfl, Or.inr ⟨by omega, ha9, hP 1 _ rfl⟩⟩ dX1_pop_28

abbrev rm_m_X1_step : Room := { frames := 8, cells := 8, slots := 80, locals := 221 }
set_option maxHeartbeats 4000000 in
theorem m_X1_step {l : Launch} {s0 : State} {G : zG} (hE : zE l s0 G) (H0 : Heap) (hO : zO s0 H0) (ρ : Ro → Nat) (σ : St) (K lc n : Nat) (c : Nat → Nat) (arr : Nat) (md : Int) (r : Nat → Nat) (v : Nat → Nat → Int) (dg : Nat) (hh : HC G s0 ρ σ H0) (hK : K < St_na σ) (hPl : PIL G s0 ρ σ K lc n c arr md r v H0) (hap : ∀ a, domC σ a → ρ a ≠ G.2 12 → ρ a ≠ lc ∧ ρ a ≠ arr) (hn : n < 10 ∧ dg < 10) : zMX l s0 yX1_step cX1_step 6 (none : Option FieldType) rm_m_X1_step [.ref (ρ (0, 0, 0)), .ref lc, .ref (ρ (6, K, 0)), .int (iI ((dg : Nat) : Int))] H0 (PM G lc arr) (rv (fun h1 => ∃ n' v' c' arr' md' r', stp σ K dg n v = some (n', v') ∧ PIL G s0 ρ σ K lc n' c' arr' md' r' v' h1 ∧ ((arr' = arr ∧ arr ≠ G.2 12) ∨ H0.size ≤ arr'))) (fun E _ => E = "java/lang/IllegalArgumentException" ∧ stp σ K dg n v = none) := by
  refine z_metX hE (by decide +kernel) (Nat.le_of_ble_eq_true rfl) ?_
  intro pp ee ss mm args below meth cd Q ls hC hml hrt hlk hnm hH hQ hno hX hS hl
  have hx := hC.x
  have hb := hC.b
  have hl : lv_has ls 6 [(0, .ref (ρ (0, 0, 0))), (1, .ref lc), (2, .ref (ρ (6, K, 0))), (3, .int (iI ((dg : Nat) : Int)))] := hl
  have hP : va_P G.1 zCl [] H0 := va_nil
  have hD : va_D (zA (PM G lc arr) H0) [] := va_nilD
  have hMo : ∀ z, PM G lc arr z → s0.heap.size ≤ z := fun z hz => hz.elim (fun w => w ▸ hPl.2.1) (fun w => w.1 ▸ (hPl.2.2.1 w.2).1)
  have hH1 := hh
  have hPl1 := hPl
  obtain ⟨hp, hna, hal, hne9, hel9, hmr9⟩ := id hh.ok
  have hp7 : 0 < St_p σ ∧ St_p σ ≤ 7 := by rcases hp with h | h | h <;> rw [h] <;> decide
  refine lv_iload_n hx hb dX1_step_0 rfl (lv_at hl 3 rfl) ?_
  refine lv_bipush (v := iI 6) hx hb dX1_step_1 (by decide) ?_
  refine z_cge (tgt := 60) hx hb dX1_step_3 (by decide) (by omega) (fun c1 => ?_) (fun c1 => ?_)
  · refine lv_aload_n hx hb dX1_step_60 rfl (lv_at hl 1 rfl) ?_
    have hPl9 := hPl1
    refine z_goX 1 6 (z_runSx (As := [.ref lc]) (rest := []) hC hml hl.1 (m_X1_pop hE H0 (hO.ext (zS_F hS) hMo) lc (n) c arr (md) hPl9.2.1 hPl9.2.2.1 hPl9.1 (fun k hk => ⟨_, (hPl9.2.2.2 k (by omega)).1.1⟩)) (lw_S q1391 q1392 q62 q1393) nd_X1_pop rfl rfl (Nat.le_of_ble_eq_true rfl) ⟨Nat.le_of_ble_eq_true rfl, Nat.le_of_ble_eq_true rfl⟩ ⟨zfit (k := 1) (z := 8) rfl rfl (by omega), zfit (k := 6) (z := 80) rfl rfl (by omega)⟩ dX1_step_61) ⟨zad (k := 1) rfl (by omega), zad (k := 6) rfl (by omega)⟩ hS (fun q z => Or.inl z) (fun E ce q9 Hx2 locs hp hF hS1 hce hcv hcl => ?_) (fun r H3 locs hp hF hS1 => ?_)
    · exact z_out hno hlk hX hS1 ⟨zle (z := 8) rfl (by omega), zle (z := 80) rfl (by omega)⟩ hce hcv hcl (⟨hp.1, by rw [hp.2]; exact stp_0 (by omega)⟩)
    obtain ⟨_, rfl, k, hkk, rfl, hL1⟩ := hp
    have hP : va_P G.1 zCl [] H3 := va_nil
    have hD : va_D (zA (PM G lc arr) H0) [] := va_nilD
    have hP : va_P G.1 zCl ([]) H3 := hP
    have hD : va_D (zA (PM G lc arr) H0) ([]) := hD
    have hH1 : HC G s0 ρ σ H3 := hH1.ext hE hF (fun a9 ha9 h12 z => z.elim (hap a9 ha9 h12).1 (fun w => (hap a9 ha9 h12).2 w.1))
    have hS := hS1
    subst hkk
    have hPl1 := PIL.popd hE hPl9 hF hL1
    have hTop := PIL.el1 hE hPl9.1 (hPl9.2.2.2 k (by omega)).1 hF
    have hTok := (hPl9.2.2.2 k (by omega)).2
    refine lv_astore (lv' := [(4, .ref (c k)), (0, .ref (ρ (0, 0, 0))), (1, .ref lc), (2, .ref (ρ (6, K, 0))), (3, .int (iI ((dg : Nat) : Int)))]) hx hb dX1_step_64 hl (by decide) rfl (fun ls hl => ?_)
    refine lv_iload_n hx hb dX1_step_66 rfl (lv_at hl 4 rfl) ?_
    refine lv_bipush (v := iI 9) hx hb dX1_step_67 (by decide) ?_
    refine z_cne (tgt := 83) hx hb dX1_step_69 (by decide) (by omega) (fun c4 => ?_) (fun c4 => ?_)
    · have hTop0 := hTop
      clear hL1
      refine lv_aload_n hx hb dX1_step_83 rfl (lv_at hl 2 rfl) ?_
      have hPl9 := hPl1
      refine z_goX 2 12 (z_runSx (As := [.ref lc]) (rest := []) hC hml hl.1 (m_X1_pop hE H3 (hO.ext (zS_F hS) hMo) lc (k) c arr (md + 1) hPl9.2.1 hPl9.2.2.1 hPl9.1 (fun k hk => ⟨_, (hPl9.2.2.2 k (by omega)).1.1⟩)) (lw_S q1391 q1392 q62 q1393) nd_X1_pop rfl rfl (Nat.le_of_ble_eq_true rfl) ⟨Nat.le_of_ble_eq_true rfl, Nat.le_of_ble_eq_true rfl⟩ ⟨zfit (k := 1) (z := 8) rfl rfl (by omega), zfit (k := 6) (z := 80) rfl rfl (by omega)⟩ dX1_step_84) ⟨zad (k := 1) rfl (by omega), zad (k := 6) rfl (by omega)⟩ hS (fun q z => Or.inl z) (fun E ce q9 Hx5 locs hp hF hS1 hce hcv hcl => ?_) (fun r H6 locs hp hF hS1 => ?_)
      · exact z_out hno hlk hX hS1 ⟨zle (z := 8) rfl (by omega), zle (z := 80) rfl (by omega)⟩ hce hcv hcl (⟨hp.1, by rw [hp.2]; exact stp_1 (by omega) (by omega)⟩)
      obtain ⟨_, rfl, k2, hkk2, rfl, hL1⟩ := hp
      have hP : va_P G.1 zCl [] H6 := va_nil
      have hD : va_D (zA (PM G lc arr) H0) [] := va_nilD
      have hP : va_P G.1 zCl ([]) H6 := hP
      have hD : va_D (zA (PM G lc arr) H0) ([]) := hD
      have hH1 : HC G s0 ρ σ H6 := hH1.ext hE hF (fun a9 ha9 h12 z => z.elim (hap a9 ha9 h12).1 (fun w => (hap a9 ha9 h12).2 w.1))
      have hS := hS1
      subst hkk2
      have hPl1 := PIL.popd hE hPl9 hF hL1
      have hLow := PIL.el1 hE hPl9.1 (hPl9.2.2.2 k2 (by omega)).1 hF
      have hLok := (hPl9.2.2.2 k2 (by omega)).2
      have hTop := PIL.el1 hE hPl9.1 hTop0 hF
      refine lv_astore (lv' := [(5, .ref (c k2)), (4, .ref (c (k2 + 1))), (0, .ref (ρ (0, 0, 0))), (1, .ref lc), (2, .ref (ρ (6, K, 0))), (3, .int (iI ((dg : Nat) : Int)))]) hx hb dX1_step_87 hl (by decide) rfl (fun ls hl => ?_)
      refine lv_aload_n hx hb dX1_step_89 rfl (lv_at hl 3 rfl) ?_
      refine lv_iload_n hx hb dX1_step_90 rfl (lv_at hl 5 rfl) ?_
      refine lv_bipush (v := iI 7) hx hb dX1_step_91 (by decide) ?_
      refine z_cne (tgt := 106) hx hb dX1_step_93 (by decide) (by omega) (fun c7 => ?_) (fun c7 => ?_)
      · refine lv_aload hx hb dX1_step_106 (lv_at hl 0 rfl) ?_
        refine lv_aload hx hb dX1_step_108 (lv_at hl 1 rfl) ?_
        refine lv_iload_n hx hb dX1_step_110 rfl (lv_at hl 5 rfl) ?_
        refine lv_bipush (v := iI 6) hx hb dX1_step_111 (by decide) ?_
        refine z_cne (tgt := 120) hx hb dX1_step_113 (by decide) (by omega) (fun c8 => ?_) (fun c8 => ?_)
        · refine lv_iconst (v := iI (-1)) hx hb dX1_step_120 rfl ?_
          have hsz9 : H0.size ≤ H6.size := hS.1
          refine z_go 4 31 (z_runV (As := [.ref (c (k2 + 1)), .int (iI (-1))]) (rest := [.ref lc]) hC hml hl.1 (m_X7_plus hE H6 (hO.ext (zS_F hS) hMo) (ρ (0, 0, 0)) (ρ (6, K, 0)) (St_p σ) (St_d σ K) (St_n σ K) (St_kd σ K) (St_dv σ K) (St_sg σ K) (c k2) (r k2) ((v k2)) (c (k2 + 1)) (r (k2 + 1)) ((v (k2 + 1))) (-1) (hH1.ag (k := K) (by omega)) hLow hLok hTop hTok (by decide)) (lw_V q1154 q518 q519 q92 q520) rfl nd_X7_plus rfl (z_rv hC (ci := 6) rfl hLow.1 rfl) rfl (Nat.le_of_ble_eq_true rfl) ⟨Nat.le_of_ble_eq_true rfl, Nat.le_of_ble_eq_true rfl⟩ ⟨zfit (k := 2) (z := 8) rfl rfl (by omega), zfit (k := 19) (z := 80) rfl rfl (by omega)⟩ dX1_step_121) ⟨zad (k := 2) rfl (by omega), zad (k := 19) rfl (by omega)⟩ hS (fun _ z => z.elim) (fun r H11 locs hp hF hS1 => ?_)
          obtain ⟨qe9, rfl, re10, hN⟩ := hp
          obtain ⟨hP, hD⟩ := zjn hP hD hS.1 hF hN
          have hP : va_P G.1 zCl ([(qe9, zOb 6 [.ref (ρ (6, K, 0)), .ref re10, .ref (ρ (0, 0, 0))]), (re10, zI G (St_n σ K) (plV (St_p σ) (-1) (v k2) (v (k2 + 1))))]) H11 := hP
          have hD : va_D (zA (PM G lc arr) H0) ([(qe9, zOb 6 [.ref (ρ (6, K, 0)), .ref re10, .ref (ρ (0, 0, 0))]), (re10, zI G (St_n σ K) (plV (St_p σ) (-1) (v k2) (v (k2 + 1))))]) := hD
          have hH1 : HC G s0 ρ σ H11 := hH1.ext0 hE hF
          have hPl1 : PIL G s0 ρ σ K lc k2 c arr (md + 1 + 1) r v H11 := hPl1.ext0 hF
          have hS := hS1
          have hElN : zEl G (ρ (0, 0, 0)) (ρ (6, K, 0)) qe9 re10 (St_n σ K) (plV (St_p σ) (-1) (v k2) (v (k2 + 1))) H11 := ⟨hP 0 _ rfl, hP 1 _ rfl⟩
          have hP : va_P G.1 zCl [] H11 := va_nil
          have hD : va_D (zA (PM G lc arr) H0) [] := va_nilD
          have hEl9 := hElN
          have hPl9 := hPl1
          have hn9 : k2 < 10 := by omega
          have hzz : s0.heap.size ≤ H11.size := (hO.ext (zS_F hS) hMo).1
          have hsz9 : H0.size ≤ H11.size := hS.1
          refine z_go 5 41 (z_runV (As := [.ref qe9]) (rest := []) hC hml hl.1 (m_J2_add hE H11 (hO.ext (zS_F hS) hMo) lc (k2) c arr (md + 1 + 1) qe9 hPl9.2.1 hPl9.2.2.1 hn9 hPl9.1 (zAny.of hE (ci := 6) rfl hEl9.1 q1979) (z_noCls hE (ci := 6) (cj := 8) rfl rfl (by decide) hEl9.1 hPl9.1.1)) (lw_V q977 q978 q979 q65 q980) rfl nd_J2_add rfl (z_rv hC (ci := 8) rfl hPl9.1.1 rfl) rfl (Nat.le_of_ble_eq_true rfl) ⟨Nat.le_of_ble_eq_true rfl, Nat.le_of_ble_eq_true rfl⟩ ⟨zfit (k := 1) (z := 8) rfl rfl (by omega), zfit (k := 10) (z := 80) rfl rfl (by omega)⟩ dX1_step_124) ⟨zad (k := 1) rfl (by omega), zad (k := 10) rfl (by omega)⟩ hS (fun q z => Or.inl z) (fun r H12 locs hp hF hS1 => ?_)
          obtain ⟨_, rfl, rfl, arr1, hL1, hor⟩ := hp
          have hP : va_P G.1 zCl [] H12 := va_nil
          have hD : va_D (zA (PM G lc arr) H0) [] := va_nilD
          have hP : va_P G.1 zCl ([]) H12 := hP
          have hD : va_D (zA (PM G lc arr) H0) ([]) := hD
          have hH1 : HC G s0 ρ σ H12 := hH1.ext hE hF (fun a9 ha9 h12 z => z.elim (hap a9 ha9 h12).1 (fun w => (hap a9 ha9 h12).2 w.1))
          have hS := hS1
          have hPl2 := PIL.push hE hPl9 hzz hF hL1 hor hEl9 (plV_ok hp _ _ _ _)
          refine lv_pop hx hb dX1_step_127 rfl ?_
          exact z_vret hC hrt hlk hQ hS ⟨zle (z := 8) rfl (by omega), zle (z := 80) rfl (by omega)⟩ ⟨rfl, _, _, _, _, _, _, (by rw [stp_2 (by omega) (by omega), if_neg (by omega), if_neg (by omega)]), hPl2, hor.imp id (fun z => Nat.le_trans hsz9 z)⟩ dX1_step_128
        · refine lv_iconst (v := iI 1) hx hb dX1_step_116 rfl ?_
          refine lv_goto (tgt := 121) hx hb dX1_step_117 (by decide) ?_
          have hsz9 : H0.size ≤ H6.size := hS.1
          refine z_go 4 31 (z_runV (As := [.ref (c (k2 + 1)), .int (iI 1)]) (rest := [.ref lc]) hC hml hl.1 (m_X7_plus hE H6 (hO.ext (zS_F hS) hMo) (ρ (0, 0, 0)) (ρ (6, K, 0)) (St_p σ) (St_d σ K) (St_n σ K) (St_kd σ K) (St_dv σ K) (St_sg σ K) (c k2) (r k2) ((v k2)) (c (k2 + 1)) (r (k2 + 1)) ((v (k2 + 1))) (1) (hH1.ag (k := K) (by omega)) hLow hLok hTop hTok (by decide)) (lw_V q1154 q518 q519 q92 q520) rfl nd_X7_plus rfl (z_rv hC (ci := 6) rfl hLow.1 rfl) rfl (Nat.le_of_ble_eq_true rfl) ⟨Nat.le_of_ble_eq_true rfl, Nat.le_of_ble_eq_true rfl⟩ ⟨zfit (k := 2) (z := 8) rfl rfl (by omega), zfit (k := 19) (z := 80) rfl rfl (by omega)⟩ dX1_step_121) ⟨zad (k := 2) rfl (by omega), zad (k := 19) rfl (by omega)⟩ hS (fun _ z => z.elim) (fun r H15 locs hp hF hS1 => ?_)
          obtain ⟨qe13, rfl, re14, hN⟩ := hp
          obtain ⟨hP, hD⟩ := zjn hP hD hS.1 hF hN
          have hP : va_P G.1 zCl ([(qe13, zOb 6 [.ref (ρ (6, K, 0)), .ref re14, .ref (ρ (0, 0, 0))]), (re14, zI G (St_n σ K) (plV (St_p σ) (1) (v k2) (v (k2 + 1))))]) H15 := hP
          have hD : va_D (zA (PM G lc arr) H0) ([(qe13, zOb 6 [.ref (ρ (6, K, 0)), .ref re14, .ref (ρ (0, 0, 0))]), (re14, zI G (St_n σ K) (plV (St_p σ) (1) (v k2) (v (k2 + 1))))]) := hD
          have hH1 : HC G s0 ρ σ H15 := hH1.ext0 hE hF
          have hPl1 : PIL G s0 ρ σ K lc k2 c arr (md + 1 + 1) r v H15 := hPl1.ext0 hF
          have hS := hS1
          have hElN : zEl G (ρ (0, 0, 0)) (ρ (6, K, 0)) qe13 re14 (St_n σ K) (plV (St_p σ) (1) (v k2) (v (k2 + 1))) H15 := ⟨hP 0 _ rfl, hP 1 _ rfl⟩
          have hP : va_P G.1 zCl [] H15 := va_nil
          have hD : va_D (zA (PM G lc arr) H0) [] := va_nilD
          have hEl9 := hElN
          have hPl9 := hPl1
          have hn9 : k2 < 10 := by omega
          have hzz : s0.heap.size ≤ H15.size := (hO.ext (zS_F hS) hMo).1
          have hsz9 : H0.size ≤ H15.size := hS.1
          refine z_go 5 41 (z_runV (As := [.ref qe13]) (rest := []) hC hml hl.1 (m_J2_add hE H15 (hO.ext (zS_F hS) hMo) lc (k2) c arr (md + 1 + 1) qe13 hPl9.2.1 hPl9.2.2.1 hn9 hPl9.1 (zAny.of hE (ci := 6) rfl hEl9.1 q1979) (z_noCls hE (ci := 6) (cj := 8) rfl rfl (by decide) hEl9.1 hPl9.1.1)) (lw_V q977 q978 q979 q65 q980) rfl nd_J2_add rfl (z_rv hC (ci := 8) rfl hPl9.1.1 rfl) rfl (Nat.le_of_ble_eq_true rfl) ⟨Nat.le_of_ble_eq_true rfl, Nat.le_of_ble_eq_true rfl⟩ ⟨zfit (k := 1) (z := 8) rfl rfl (by omega), zfit (k := 10) (z := 80) rfl rfl (by omega)⟩ dX1_step_124) ⟨zad (k := 1) rfl (by omega), zad (k := 10) rfl (by omega)⟩ hS (fun q z => Or.inl z) (fun r H16 locs hp hF hS1 => ?_)
          obtain ⟨_, rfl, rfl, arr1, hL1, hor⟩ := hp
          have hP : va_P G.1 zCl [] H16 := va_nil
          have hD : va_D (zA (PM G lc arr) H0) [] := va_nilD
          have hP : va_P G.1 zCl ([]) H16 := hP
          have hD : va_D (zA (PM G lc arr) H0) ([]) := hD
          have hH1 : HC G s0 ρ σ H16 := hH1.ext hE hF (fun a9 ha9 h12 z => z.elim (hap a9 ha9 h12).1 (fun w => (hap a9 ha9 h12).2 w.1))
          have hS := hS1
          have hPl2 := PIL.push hE hPl9 hzz hF hL1 hor hEl9 (plV_ok hp _ _ _ _)
          refine lv_pop hx hb dX1_step_127 rfl ?_
          exact z_vret hC hrt hlk hQ hS ⟨zle (z := 8) rfl (by omega), zle (z := 80) rfl (by omega)⟩ ⟨rfl, _, _, _, _, _, _, (by rw [stp_2 (by omega) (by omega), if_neg (by omega), if_pos (by omega)]), hPl2, hor.imp id (fun z => Nat.le_trans hsz9 z)⟩ dX1_step_128
      · refine lv_aload hx hb dX1_step_96 (lv_at hl 0 rfl) ?_
        refine lv_aload hx hb dX1_step_98 (lv_at hl 1 rfl) ?_
        have hsz9 : H0.size ≤ H6.size := hS.1
        refine z_go 4 31 (z_runV (As := [.ref (c (k2 + 1))]) (rest := [.ref lc]) hC hml hl.1 (m_X7_times hE H6 (hO.ext (zS_F hS) hMo) (ρ (0, 0, 0)) (ρ (6, K, 0)) (St_p σ) (St_d σ K) (St_n σ K) (St_kd σ K) (St_dv σ K) (St_sg σ K) (c k2) (r k2) ((v k2)) (c (k2 + 1)) (r (k2 + 1)) ((v (k2 + 1)))  (hH1.ag (k := K) (by omega)) hLow hLok hTop hTok ) (lw_V q512 q360 q361 q92 q362) rfl nd_X7_times rfl (z_rv hC (ci := 6) rfl hLow.1 rfl) rfl (Nat.le_of_ble_eq_true rfl) ⟨Nat.le_of_ble_eq_true rfl, Nat.le_of_ble_eq_true rfl⟩ ⟨zfit (k := 2) (z := 8) rfl rfl (by omega), zfit (k := 19) (z := 80) rfl rfl (by omega)⟩ dX1_step_100) ⟨zad (k := 2) rfl (by omega), zad (k := 19) rfl (by omega)⟩ hS (fun _ z => z.elim) (fun r H19 locs hp hF hS1 => ?_)
        obtain ⟨qe17, rfl, re18, hN⟩ := hp
        obtain ⟨hP, hD⟩ := zjn hP hD hS.1 hF hN
        have hP : va_P G.1 zCl ([(qe17, zOb 6 [.ref (ρ (6, K, 0)), .ref re18, .ref (ρ (0, 0, 0))]), (re18, zI G (St_n σ K) (tmV (St_p σ) (St_n σ K) (St_sg σ K) (v k2) (v (k2 + 1))))]) H19 := hP
        have hD : va_D (zA (PM G lc arr) H0) ([(qe17, zOb 6 [.ref (ρ (6, K, 0)), .ref re18, .ref (ρ (0, 0, 0))]), (re18, zI G (St_n σ K) (tmV (St_p σ) (St_n σ K) (St_sg σ K) (v k2) (v (k2 + 1))))]) := hD
        have hH1 : HC G s0 ρ σ H19 := hH1.ext0 hE hF
        have hPl1 : PIL G s0 ρ σ K lc k2 c arr (md + 1 + 1) r v H19 := hPl1.ext0 hF
        have hS := hS1
        have hElN : zEl G (ρ (0, 0, 0)) (ρ (6, K, 0)) qe17 re18 (St_n σ K) (tmV (St_p σ) (St_n σ K) (St_sg σ K) (v k2) (v (k2 + 1))) H19 := ⟨hP 0 _ rfl, hP 1 _ rfl⟩
        have hP : va_P G.1 zCl [] H19 := va_nil
        have hD : va_D (zA (PM G lc arr) H0) [] := va_nilD
        refine lv_goto (tgt := 124) hx hb dX1_step_103 (by decide) ?_
        have hEl9 := hElN
        have hPl9 := hPl1
        have hn9 : k2 < 10 := by omega
        have hzz : s0.heap.size ≤ H19.size := (hO.ext (zS_F hS) hMo).1
        have hsz9 : H0.size ≤ H19.size := hS.1
        refine z_go 5 41 (z_runV (As := [.ref qe17]) (rest := []) hC hml hl.1 (m_J2_add hE H19 (hO.ext (zS_F hS) hMo) lc (k2) c arr (md + 1 + 1) qe17 hPl9.2.1 hPl9.2.2.1 hn9 hPl9.1 (zAny.of hE (ci := 6) rfl hEl9.1 q1979) (z_noCls hE (ci := 6) (cj := 8) rfl rfl (by decide) hEl9.1 hPl9.1.1)) (lw_V q977 q978 q979 q65 q980) rfl nd_J2_add rfl (z_rv hC (ci := 8) rfl hPl9.1.1 rfl) rfl (Nat.le_of_ble_eq_true rfl) ⟨Nat.le_of_ble_eq_true rfl, Nat.le_of_ble_eq_true rfl⟩ ⟨zfit (k := 1) (z := 8) rfl rfl (by omega), zfit (k := 10) (z := 80) rfl rfl (by omega)⟩ dX1_step_124) ⟨zad (k := 1) rfl (by omega), zad (k := 10) rfl (by omega)⟩ hS (fun q z => Or.inl z) (fun r H20 locs hp hF hS1 => ?_)
        obtain ⟨_, rfl, rfl, arr1, hL1, hor⟩ := hp
        have hP : va_P G.1 zCl [] H20 := va_nil
        have hD : va_D (zA (PM G lc arr) H0) [] := va_nilD
        have hP : va_P G.1 zCl ([]) H20 := hP
        have hD : va_D (zA (PM G lc arr) H0) ([]) := hD
        have hH1 : HC G s0 ρ σ H20 := hH1.ext hE hF (fun a9 ha9 h12 z => z.elim (hap a9 ha9 h12).1 (fun w => (hap a9 ha9 h12).2 w.1))
        have hS := hS1
        have hPl2 := PIL.push hE hPl9 hzz hF hL1 hor hEl9 (tmV_ok hp _ _ _ _)
        refine lv_pop hx hb dX1_step_127 rfl ?_
        exact z_vret hC hrt hlk hQ hS ⟨zle (z := 8) rfl (by omega), zle (z := 80) rfl (by omega)⟩ ⟨rfl, _, _, _, _, _, _, (by rw [stp_2 (by omega) (by omega), if_pos (by omega)]), hPl2, hor.imp id (fun z => Nat.le_trans hsz9 z)⟩ dX1_step_128
    · refine lv_aload_n hx hb dX1_step_72 rfl (lv_at hl 2 rfl) ?_
      refine lv_aload hx hb dX1_step_73 (lv_at hl 0 rfl) ?_
      have hsz9 : H0.size ≤ H3.size := hS.1
      refine z_go 3 25 (z_runV (As := []) (rest := [.ref lc]) hC hml hl.1 (m_X7_conjugate hE H3 (hO.ext (zS_F hS) hMo) (ρ (0, 0, 0)) (ρ (6, K, 0)) (St_p σ) (St_d σ K) (St_n σ K) (St_kd σ K) (St_dv σ K) (St_sg σ K) (c k) (r k) ((v k))  (hH1.ag (k := K) (by omega)) hTop hTok ) (lw_V q1183 q312 q313 q92 q314) rfl nd_X7_conjugate rfl (z_rv hC (ci := 6) rfl hTop.1 rfl) rfl (Nat.le_of_ble_eq_true rfl) ⟨Nat.le_of_ble_eq_true rfl, Nat.le_of_ble_eq_true rfl⟩ ⟨zfit (k := 2) (z := 8) rfl rfl (by omega), zfit (k := 19) (z := 80) rfl rfl (by omega)⟩ dX1_step_75) ⟨zad (k := 2) rfl (by omega), zad (k := 19) rfl (by omega)⟩ hS (fun _ z => z.elim) (fun r H23 locs hp hF hS1 => ?_)
      obtain ⟨qe21, rfl, re22, hN⟩ := hp
      obtain ⟨hP, hD⟩ := zjn hP hD hS.1 hF hN
      have hP : va_P G.1 zCl ([(qe21, zOb 6 [.ref (ρ (6, K, 0)), .ref re22, .ref (ρ (0, 0, 0))]), (re22, zI G (St_n σ K) (cjV (St_p σ) (St_kd σ K) (v k)))]) H23 := hP
      have hD : va_D (zA (PM G lc arr) H0) ([(qe21, zOb 6 [.ref (ρ (6, K, 0)), .ref re22, .ref (ρ (0, 0, 0))]), (re22, zI G (St_n σ K) (cjV (St_p σ) (St_kd σ K) (v k)))]) := hD
      have hH1 : HC G s0 ρ σ H23 := hH1.ext0 hE hF
      have hPl1 : PIL G s0 ρ σ K lc k c arr (md + 1) r v H23 := hPl1.ext0 hF
      have hTop : zEl G (ρ (0, 0, 0)) (ρ (6, K, 0)) (c k) (r k) (St_n σ K) (v k) H23 := hTop.ext0 hF
      have hS := hS1
      have hElN : zEl G (ρ (0, 0, 0)) (ρ (6, K, 0)) qe21 re22 (St_n σ K) (cjV (St_p σ) (St_kd σ K) (v k)) H23 := ⟨hP 0 _ rfl, hP 1 _ rfl⟩
      have hP : va_P G.1 zCl [] H23 := va_nil
      have hD : va_D (zA (PM G lc arr) H0) [] := va_nilD
      have hEl9 := hElN
      have hPl9 := hPl1
      have hn9 : k < 10 := by omega
      have hzz : s0.heap.size ≤ H23.size := (hO.ext (zS_F hS) hMo).1
      have hsz9 : H0.size ≤ H23.size := hS.1
      refine z_go 4 35 (z_runV (As := [.ref qe21]) (rest := []) hC hml hl.1 (m_J2_add hE H23 (hO.ext (zS_F hS) hMo) lc (k) c arr (md + 1) qe21 hPl9.2.1 hPl9.2.2.1 hn9 hPl9.1 (zAny.of hE (ci := 6) rfl hEl9.1 q1979) (z_noCls hE (ci := 6) (cj := 8) rfl rfl (by decide) hEl9.1 hPl9.1.1)) (lw_V q977 q978 q979 q65 q980) rfl nd_J2_add rfl (z_rv hC (ci := 8) rfl hPl9.1.1 rfl) rfl (Nat.le_of_ble_eq_true rfl) ⟨Nat.le_of_ble_eq_true rfl, Nat.le_of_ble_eq_true rfl⟩ ⟨zfit (k := 1) (z := 8) rfl rfl (by omega), zfit (k := 10) (z := 80) rfl rfl (by omega)⟩ dX1_step_78) ⟨zad (k := 1) rfl (by omega), zad (k := 10) rfl (by omega)⟩ hS (fun q z => Or.inl z) (fun r H24 locs hp hF hS1 => ?_)
      obtain ⟨_, rfl, rfl, arr1, hL1, hor⟩ := hp
      have hP : va_P G.1 zCl [] H24 := va_nil
      have hD : va_D (zA (PM G lc arr) H0) [] := va_nilD
      have hP : va_P G.1 zCl ([]) H24 := hP
      have hD : va_D (zA (PM G lc arr) H0) ([]) := hD
      have hH1 : HC G s0 ρ σ H24 := hH1.ext hE hF (fun a9 ha9 h12 z => z.elim (hap a9 ha9 h12).1 (fun w => (hap a9 ha9 h12).2 w.1))
      have hS := hS1
      have hPl2 := PIL.push hE hPl9 hzz hF hL1 hor hEl9 (cjV_ok hp _ _ _)
      refine lv_pop hx hb dX1_step_81 rfl ?_
      exact z_vret hC hrt hlk hQ hS ⟨zle (z := 8) rfl (by omega), zle (z := 80) rfl (by omega)⟩ ⟨rfl, _, _, _, _, _, _, (stp_9 (by omega)), hPl2, hor.imp id (fun z => Nat.le_trans hsz9 z)⟩ dX1_step_82
  · obtain ⟨sm, hxx⟩ := id hH1.2.2.1.1
    refine lv_iload_n hx hb dX1_step_6 rfl (lv_at hl 3 rfl) ?_
    refine lv_aload_n hx hb dX1_step_7 rfl (lv_at hl 0 rfl) ?_
    refine z_get hC (k := 2) rfl in_X1 hxx (by decide) q153 (fun _ h => h) rfl dX1_step_8 ?_
    obtain ⟨mde, hLe⟩ := id hH1.2.2.1.2.2.1
    refine z_go 0 0 (z_runV (As := []) (rest := [.int (iI ((dg : Nat) : Int))]) hC hml hl.1 (m_J2_size hE H0 (hO.ext (zS_F hS) hMo) (ρ (3, 0, 0)) (St_ne σ) (fun j => ρ (13, j, 0)) (ρ (4, 0, 0)) mde hLe) (lw_V q229 q230 q231 q65 q232) rfl nd_J2_size rfl (z_rv hC (ci := 8) rfl hLe.1 rfl) rfl (Nat.le_of_ble_eq_true rfl) ⟨Nat.le_of_ble_eq_true rfl, Nat.le_of_ble_eq_true rfl⟩ ⟨zfit (k := 0) (z := 8) rfl rfl (by omega), zfit (k := 0) (z := 80) rfl rfl (by omega)⟩ dX1_step_11) ⟨zad (k := 0) rfl (by omega), zad (k := 0) rfl (by omega)⟩ hS (fun _ z => z.elim) (fun r H25 locs hp hF hS1 => ?_)
    obtain ⟨_, rfl, rfl⟩ := hp
    have hP := zpk hP hF
    have hP : va_P G.1 zCl ([]) H25 := hP
    have hD : va_D (zA (PM G lc arr) H0) ([]) := hD
    have hH1 : HC G s0 ρ σ H25 := hH1.ext0 hE hF
    have hPl1 : PIL G s0 ρ σ K lc (n) c arr (md) r v H25 := hPl1.ext0 hF
    have hS := hS1
    refine z_cge (tgt := 39) hx hb dX1_step_14 (by decide) (by omega) (fun c26 => ?_) (fun c26 => ?_)
    · refine lv_iconst (v := iI 0) hx hb dX1_step_39 rfl ?_
      refine z_goX 1 6 (z_runSx (As := [.int (iI 0)]) (rest := []) hC hml hl.1 (m_X1_require hE H25 (hO.ext (zS_F hS) hMo) 0 (by decide)) (lw_S q905 q906 q62 q907) nd_X1_require rfl rfl (Nat.le_of_ble_eq_true rfl) ⟨Nat.le_of_ble_eq_true rfl, Nat.le_of_ble_eq_true rfl⟩ ⟨zfit (k := 1) (z := 8) rfl rfl (by omega), zfit (k := 6) (z := 80) rfl rfl (by omega)⟩ dX1_step_40) ⟨zad (k := 1) rfl (by omega), zad (k := 6) rfl (by omega)⟩ hS (fun _ z => z.elim) (fun E ce q9 Hx27 locs hp hF hS1 hce hcv hcl => ?_) (fun r H28 locs hp hF hS1 => ?_)
      · exact z_out hno hlk hX hS1 ⟨zle (z := 8) rfl (by omega), zle (z := 80) rfl (by omega)⟩ hce hcv hcl (⟨hp.1, stp_e0 (by omega) (fun z => by omega)⟩)
      exact (show False from by have h9 : (0 : Nat) = 1 := hp.2; omega).elim
    · obtain ⟨sm, hxx⟩ := id hH1.2.2.1.1
      refine lv_aload_n hx hb dX1_step_17 rfl (lv_at hl 0 rfl) ?_
      refine z_get hC (k := 2) rfl in_X1 hxx (by decide) q153 (fun _ h => h) rfl dX1_step_18 ?_
      refine lv_iload_n hx hb dX1_step_21 rfl (lv_at hl 3 rfl) ?_
      obtain ⟨mde, hLe⟩ := id hH1.2.2.1.2.2.1
      refine z_go 0 0 (z_runV (As := [.int (iI ((dg : Nat) : Int))]) (rest := []) hC hml hl.1 (m_J2_get hE H25 (hO.ext (zS_F hS) hMo) (ρ (3, 0, 0)) (St_ne σ) (fun j => ρ (13, j, 0)) (ρ (4, 0, 0)) mde dg hLe (by omega)) (lw_V q372 q373 q374 q65 q375) rfl nd_J2_get rfl (z_rv hC (ci := 8) rfl hLe.1 rfl) rfl (Nat.le_of_ble_eq_true rfl) ⟨Nat.le_of_ble_eq_true rfl, Nat.le_of_ble_eq_true rfl⟩ ⟨zfit (k := 0) (z := 8) rfl rfl (by omega), zfit (k := 0) (z := 80) rfl rfl (by omega)⟩ dX1_step_22) ⟨zad (k := 0) rfl (by omega), zad (k := 0) rfl (by omega)⟩ hS (fun _ z => z.elim) (fun r H29 locs hp hF hS1 => ?_)
      obtain ⟨_, rfl, rfl⟩ := hp
      have hP := zpk hP hF
      have hP : va_P G.1 zCl ([]) H29 := hP
      have hD : va_D (zA (PM G lc arr) H0) ([]) := hD
      have hH1 : HC G s0 ρ σ H29 := hH1.ext0 hE hF
      have hPl1 : PIL G s0 ρ σ K lc (n) c arr (md) r v H29 := hPl1.ext0 hF
      have hS := hS1
      have hvdg := hH1.row (j := dg) (by omega)
      have hEdg := hH1.el (j := dg) (by omega)
      have headg := hH1.ea (j := dg) (by omega)
      obtain ⟨hn16dg, -⟩ := (hH1.ag headg).n
      refine z_cast hC (ci := 6) rfl hEdg.1 rfl q220 dX1_step_25 ?_
      refine z_getn hC (k := 0) rfl in_X7 hEdg.1 (by decide) q323 (fun _ h => h) rfl dX1_step_28 ?_
      refine lv_aload_n hx hb dX1_step_31 rfl (lv_at hl 2 rfl) ?_
      refine z_ane (tgt := 39) hx hb dX1_step_32 (by decide)   (fun ca => ?_) (fun ca => ?_)
      · refine lv_iconst (v := iI 0) hx hb dX1_step_39 rfl ?_
        refine z_goX 1 6 (z_runSx (As := [.int (iI 0)]) (rest := []) hC hml hl.1 (m_X1_require hE H29 (hO.ext (zS_F hS) hMo) 0 (by decide)) (lw_S q905 q906 q62 q907) nd_X1_require rfl rfl (Nat.le_of_ble_eq_true rfl) ⟨Nat.le_of_ble_eq_true rfl, Nat.le_of_ble_eq_true rfl⟩ ⟨zfit (k := 1) (z := 8) rfl rfl (by omega), zfit (k := 6) (z := 80) rfl rfl (by omega)⟩ dX1_step_40) ⟨zad (k := 1) rfl (by omega), zad (k := 6) rfl (by omega)⟩ hS (fun _ z => z.elim) (fun E ce q9 Hx30 locs hp hF hS1 hce hcv hcl => ?_) (fun r H31 locs hp hF hS1 => ?_)
        · exact z_out hno hlk hX hS1 ⟨zle (z := 8) rfl (by omega), zle (z := 80) rfl (by omega)⟩ hce hcv hcl (⟨hp.1, stp_e0 (by omega) (fun z => ca (by rw [z.2]))⟩)
        exact (show False from by have h9 : (0 : Nat) = 1 := hp.2; omega).elim
      · have hed : St_ea σ dg = K := by have h9 := hh.sep.2 _ _ (domA 6 _ (by omega) headg) (domA 6 _ (by omega) hK) ca (hh.sep.n12 hE (domA 6 _ (by omega) headg) (by simp)); simpa using h9
        refine lv_iconst (v := iI 1) hx hb dX1_step_35 rfl ?_
        refine lv_goto (tgt := 40) hx hb dX1_step_36 (by decide) ?_
        refine z_goX 1 6 (z_runSx (As := [.int (iI 1)]) (rest := []) hC hml hl.1 (m_X1_require hE H29 (hO.ext (zS_F hS) hMo) 1 (by decide)) (lw_S q905 q906 q62 q907) nd_X1_require rfl rfl (Nat.le_of_ble_eq_true rfl) ⟨Nat.le_of_ble_eq_true rfl, Nat.le_of_ble_eq_true rfl⟩ ⟨zfit (k := 1) (z := 8) rfl rfl (by omega), zfit (k := 6) (z := 80) rfl rfl (by omega)⟩ dX1_step_40) ⟨zad (k := 1) rfl (by omega), zad (k := 6) rfl (by omega)⟩ hS (fun _ z => z.elim) (fun E ce q9 Hx32 locs hp hF hS1 hce hcv hcl => ?_) (fun r H33 locs hp hF hS1 => ?_)
        · exact z_out hno hlk hX hS1 ⟨zle (z := 8) rfl (by omega), zle (z := 80) rfl (by omega)⟩ hce hcv hcl (absurd hp.2 (by decide))
        obtain ⟨rfl, -⟩ := hp
        have hP := zpk hP hF
        have hP : va_P G.1 zCl ([]) H33 := hP
        have hD : va_D (zA (PM G lc arr) H0) ([]) := hD
        have hH1 : HC G s0 ρ σ H33 := hH1.ext0 hE hF
        have hPl1 : PIL G s0 ρ σ K lc (n) c arr (md) r v H33 := hPl1.ext0 hF
        have hS := hS1
        obtain ⟨sm, hxx⟩ := id hH1.2.2.1.1
        refine lv_aload_n hx hb dX1_step_43 rfl (lv_at hl 1 rfl) ?_
        refine lv_aload_n hx hb dX1_step_44 rfl (lv_at hl 0 rfl) ?_
        refine z_get hC (k := 2) rfl in_X1 hxx (by decide) q153 (fun _ h => h) rfl dX1_step_45 ?_
        refine lv_iload_n hx hb dX1_step_48 rfl (lv_at hl 3 rfl) ?_
        obtain ⟨mde, hLe⟩ := id hH1.2.2.1.2.2.1
        refine z_go 1 6 (z_runV (As := [.int (iI ((dg : Nat) : Int))]) (rest := [.ref lc]) hC hml hl.1 (m_J2_get hE H33 (hO.ext (zS_F hS) hMo) (ρ (3, 0, 0)) (St_ne σ) (fun j => ρ (13, j, 0)) (ρ (4, 0, 0)) mde dg hLe (by omega)) (lw_V q372 q373 q374 q65 q375) rfl nd_J2_get rfl (z_rv hC (ci := 8) rfl hLe.1 rfl) rfl (Nat.le_of_ble_eq_true rfl) ⟨Nat.le_of_ble_eq_true rfl, Nat.le_of_ble_eq_true rfl⟩ ⟨zfit (k := 0) (z := 8) rfl rfl (by omega), zfit (k := 0) (z := 80) rfl rfl (by omega)⟩ dX1_step_49) ⟨zad (k := 0) rfl (by omega), zad (k := 0) rfl (by omega)⟩ hS (fun _ z => z.elim) (fun r H34 locs hp hF hS1 => ?_)
        obtain ⟨_, rfl, rfl⟩ := hp
        have hP := zpk hP hF
        have hP : va_P G.1 zCl ([]) H34 := hP
        have hD : va_D (zA (PM G lc arr) H0) ([]) := hD
        have hH1 : HC G s0 ρ σ H34 := hH1.ext0 hE hF
        have hPl1 : PIL G s0 ρ σ K lc (n) c arr (md) r v H34 := hPl1.ext0 hF
        have hS := hS1
        have hvdg := hH1.row (j := dg) (by omega)
        have hEdg := hH1.el (j := dg) (by omega)
        have headg := hH1.ea (j := dg) (by omega)
        obtain ⟨hn16dg, -⟩ := (hH1.ag headg).n
        refine z_cast hC (ci := 6) rfl hEdg.1 rfl q220 dX1_step_52 ?_
        rw [hed] at hEdg hvdg
        have hEl9 := hEdg
        have hPl9 := hPl1
        have hn9 : n < 10 := by omega
        have hzz : s0.heap.size ≤ H34.size := (hO.ext (zS_F hS) hMo).1
        have hsz9 : H0.size ≤ H34.size := hS.1
        refine z_go 2 16 (z_runV (As := [.ref (ρ (13, dg, 0))]) (rest := []) hC hml hl.1 (m_J2_add hE H34 (hO.ext (zS_F hS) hMo) lc (n) c arr (md) (ρ (13, dg, 0)) hPl9.2.1 hPl9.2.2.1 hn9 hPl9.1 (zAny.of hE (ci := 6) rfl hEl9.1 q1979) (z_noCls hE (ci := 6) (cj := 8) rfl rfl (by decide) hEl9.1 hPl9.1.1)) (lw_V q977 q978 q979 q65 q980) rfl nd_J2_add rfl (z_rv hC (ci := 8) rfl hPl9.1.1 rfl) rfl (Nat.le_of_ble_eq_true rfl) ⟨Nat.le_of_ble_eq_true rfl, Nat.le_of_ble_eq_true rfl⟩ ⟨zfit (k := 1) (z := 8) rfl rfl (by omega), zfit (k := 10) (z := 80) rfl rfl (by omega)⟩ dX1_step_55) ⟨zad (k := 1) rfl (by omega), zad (k := 10) rfl (by omega)⟩ hS (fun q z => Or.inl z) (fun r H35 locs hp hF hS1 => ?_)
        obtain ⟨_, rfl, rfl, arr1, hL1, hor⟩ := hp
        have hP : va_P G.1 zCl [] H35 := va_nil
        have hD : va_D (zA (PM G lc arr) H0) [] := va_nilD
        have hP : va_P G.1 zCl ([]) H35 := hP
        have hD : va_D (zA (PM G lc arr) H0) ([]) := hD
        have hH1 : HC G s0 ρ σ H35 := hH1.ext hE hF (fun a9 ha9 h12 z => z.elim (hap a9 ha9 h12).1 (fun w => (hap a9 ha9 h12).2 w.1))
        have hS := hS1
        have hPl2 := PIL.push hE hPl9 hzz hF hL1 hor hEl9 hvdg
        refine lv_pop hx hb dX1_step_58 rfl ?_
        exact z_vret hC hrt hlk hQ hS ⟨zle (z := 8) rfl (by omega), zle (z := 80) rfl (by omega)⟩ ⟨rfl, _, _, _, _, _, _, (stp_e (by omega) ⟨by omega, hed⟩), hPl2, hor.imp id (fun z => Nat.le_trans hsz9 z)⟩ dX1_step_59

abbrev rm_m_X1_run : Room := { frames := 9, cells := 200, slots := 2000, locals := 246 }
set_option maxHeartbeats 4000000 in
theorem m_X1_run {l : Launch} {s0 : State} {G : zG} (hE : zE l s0 G) (H0 : Heap) (hO : zO s0 H0) (ρ : Ro → Nat) (σ : St) (i w : Int) (hh : HC G s0 ρ σ H0) (hi : zi i ∧ zi w) : zMX l s0 yX1_run cX1_run 6 (some FieldType.int) rm_m_X1_run [.ref (ρ (0, 0, 0)), .int (iI i), .int (iI w)] H0 (FC G ρ σ) (HP G s0 H0 ρ σ (fun y σ' => ∃ (a : Nat) (v : Nat → Nat → Int), (i = a ∧ a < St_ne σ) ∧ 0 ≤ w ∧ rnV σ (St_ea σ a) 10 w.toNat 0 (fun _ _ => 0) = some (1, v) ∧ σ' = stEl σ a (v 0) ∧ y = (szV (v 0) (St_n σ (St_ea σ a)) : Nat))) (HX G s0 ρ σ (fun E => (E = IOB ∧ ¬ inE σ i) ∨ (E = IAE ∧ inE σ i ∧ ¬ (0 ≤ w ∧ ∃ v, rnV σ (St_ea σ i.toNat) 10 w.toNat 0 (fun _ _ => 0) = some (1, v))))) := by
  refine z_metX hE (by decide +kernel) (Nat.le_of_ble_eq_true rfl) ?_
  intro pp ee ss mm args below meth cd Q ls hC hml hrt hlk hnm hH hQ hno hX hS hl
  have hx := hC.x
  have hb := hC.b
  have hl : lv_has ls 6 [(0, .ref (ρ (0, 0, 0))), (1, .int (iI i)), (2, .int (iI w))] := hl
  have hP : va_P G.1 zCl [] H0 := va_nil
  have hD : va_D (zA (FC G ρ σ) H0) [] := va_nilD
  have hMo : ∀ z, FC G ρ σ z → s0.heap.size ≤ z := fun z hz => FC.ge hh.sep hz
  have hH1 := hh
  obtain ⟨hp, hna, hal, hne9, hel9, hmr9⟩ := id hh.ok
  have hp7 : 0 < St_p σ ∧ St_p σ ≤ 7 := by rcases hp with h | h | h <;> rw [h] <;> decide
  obtain ⟨sm9, -⟩ := id hh.2.2.1.1
  refine lv_aload_n hx hb dX1_run_0 rfl (lv_at hl 0 rfl) ?_
  refine lv_iload_n hx hb dX1_run_1 rfl (lv_at hl 1 rfl) ?_
  obtain ⟨sm, hxx⟩ := id hH1.2.2.1.1
  refine z_goX 1 6 (z_runVx (As := [.int (iI i)]) (rest := []) hC hml hl.1 (m_X1_elementAt hE H0 (hO.ext (zS_F hS) hMo) ρ σ i hH1 hi.1) (lw_V q1139 q1141 qs25 q62 q1142) rfl nd_X1_elementAt rfl (z_rv hC (ci := 0) rfl hxx rfl) rfl (Nat.le_of_ble_eq_true rfl) ⟨Nat.le_of_ble_eq_true rfl, Nat.le_of_ble_eq_true rfl⟩ ⟨zfit (k := 1) (z := 200) rfl rfl (by omega), zfit (k := 6) (z := 2000) rfl rfl (by omega)⟩ dX1_run_2) ⟨zad (k := 1) rfl (by omega), zad (k := 6) rfl (by omega)⟩ hS (fun _ z => z.elim) (fun E ce q9 Hx1 locs hp hF hS1 hce hcv hcl => ?_) (fun r H2 locs hp hF hS1 => ?_)
  · exact z_out hno hlk hX hS1 ⟨zle (z := 200) rfl (by omega), zle (z := 2000) rfl (by omega)⟩ hce hcv hcl (⟨Or.inl ⟨hp.1, hp.2⟩, hH1.ext0 hE hF⟩)
  obtain ⟨_, rfl, a, ea9, ha9, rfl⟩ := hp
  have hP := zpk hP hF
  have hP : va_P G.1 zCl ([]) H2 := hP
  have hD : va_D (zA (FC G ρ σ) H0) ([]) := hD
  have hH1 : HC G s0 ρ σ H2 := hH1.ext0 hE hF
  have hS := hS1
  have ea9 : i.toNat = a := by omega
  have iE : inE σ i := by unfold inE; omega
  have hea0 := hh.ea (j := a) (by omega)
  refine lv_astore_n (lv' := [(3, .ref (ρ (13, a, 0))), (0, .ref (ρ (0, 0, 0))), (1, .int (iI i)), (2, .int (iI w))]) hx hb dX1_run_5 rfl hl (by decide) rfl (fun ls hl => ?_)
  refine lv_iload_n hx hb dX1_run_6 rfl (lv_at hl 3 rfl) ?_
  refine z_zlt (tgt := 14) hx hb dX1_run_7 (by decide) (by omega) (fun c3 => ?_) (fun c3 => ?_)
  · refine lv_iconst (v := iI 0) hx hb dX1_run_14 rfl ?_
    refine z_goX 2 12 (z_runSx (As := [.int (iI 0)]) (rest := []) hC hml hl.1 (m_X1_require hE H2 (hO.ext (zS_F hS) hMo) 0 (by decide)) (lw_S q905 q906 q62 q907) nd_X1_require rfl rfl (Nat.le_of_ble_eq_true rfl) ⟨Nat.le_of_ble_eq_true rfl, Nat.le_of_ble_eq_true rfl⟩ ⟨zfit (k := 1) (z := 200) rfl rfl (by omega), zfit (k := 6) (z := 2000) rfl rfl (by omega)⟩ dX1_run_15) ⟨zad (k := 1) rfl (by omega), zad (k := 6) rfl (by omega)⟩ hS (fun _ z => z.elim) (fun E ce q9 Hx4 locs hp hF hS1 hce hcv hcl => ?_) (fun r H5 locs hp hF hS1 => ?_)
    · exact z_out hno hlk hX hS1 ⟨zle (z := 200) rfl (by omega), zle (z := 2000) rfl (by omega)⟩ hce hcv hcl (⟨Or.inr ⟨hp.1, iE, fun z => by omega⟩, hH1.ext0 hE hF⟩)
    exact (show False from by have h9 : (0 : Nat) = 1 := hp.2; omega).elim
  · obtain ⟨W9, hW9⟩ : ∃ W9 : Nat, w = W9 := ⟨w.toNat, by omega⟩
    have hWn : w.toNat = W9 := by omega
    rw [hW9] at hl
    refine lv_iconst (v := iI 1) hx hb dX1_run_10 rfl ?_
    refine lv_goto (tgt := 15) hx hb dX1_run_11 (by decide) ?_
    refine z_goX 2 12 (z_runSx (As := [.int (iI 1)]) (rest := []) hC hml hl.1 (m_X1_require hE H2 (hO.ext (zS_F hS) hMo) 1 (by decide)) (lw_S q905 q906 q62 q907) nd_X1_require rfl rfl (Nat.le_of_ble_eq_true rfl) ⟨Nat.le_of_ble_eq_true rfl, Nat.le_of_ble_eq_true rfl⟩ ⟨zfit (k := 1) (z := 200) rfl rfl (by omega), zfit (k := 6) (z := 2000) rfl rfl (by omega)⟩ dX1_run_15) ⟨zad (k := 1) rfl (by omega), zad (k := 6) rfl (by omega)⟩ hS (fun _ z => z.elim) (fun E ce q9 Hx6 locs hp hF hS1 hce hcv hcl => ?_) (fun r H7 locs hp hF hS1 => ?_)
    · exact z_out hno hlk hX hS1 ⟨zle (z := 200) rfl (by omega), zle (z := 2000) rfl (by omega)⟩ hce hcv hcl (absurd hp.2 (by decide))
    obtain ⟨rfl, -⟩ := hp
    have hP := zpk hP hF
    have hP : va_P G.1 zCl ([]) H7 := hP
    have hD : va_D (zA (FC G ρ σ) H0) ([]) := hD
    have hH1 : HC G s0 ρ σ H7 := hH1.ext0 hE hF
    have hS := hS1
    refine z_new hC hP hD hS (c1 := 3) (s1 := 15) (fs := [.int (iI 0), .null, .int (iI 0)]) (ci := 8) rfl in_J2 tyJ2_ok q110 q111 q65 df_J2 ⟨zle (z := 200) rfl (by omega), zle (z := 2000) rfl (by omega)⟩ ⟨by omega, by omega⟩ (ws' := fun q8 => [(q8, zOb 8 [.int (iI 0), .null, .int (iI 0)])]) (fun _ => rfl) dX1_run_18 (fun q8 H9 hq0q8 hq1q8 hP hD hS hF => ?_)
    refine lv_dup hx hb dX1_run_21 rfl ?_
    have hH1 : HC G s0 ρ σ H9 := hH1.ext0 hE hF
    have hqn9 : H0.size ≤ q8 := hq0q8
    refine z_go 3 15 (z_runI (As := []) (rest := [.ref q8]) hC hml hl.1 (m_J2_init hE H9 (hO.ext (zS_F hS) hMo) q8 (Nat.le_trans hO.1 hqn9) (hP 0 _ rfl)) q114 q65 q112 q113 rfl nd_J2_init rfl rfl (Nat.le_of_ble_eq_true rfl) ⟨Nat.le_of_ble_eq_true rfl, Nat.le_of_ble_eq_true rfl⟩ ⟨zfit (k := 0) (z := 200) rfl rfl (by omega), zfit (k := 0) (z := 2000) rfl rfl (by omega)⟩ dX1_run_22) ⟨zad (k := 0) rfl (by omega), zad (k := 0) rfl (by omega)⟩ hS (fun q z => by subst z; exact hD.2 0 _ rfl) (fun r H10 locs hp hF hS1 => ?_)
    obtain ⟨rfl, hm⟩ := hp
    obtain ⟨hP, hD⟩ := zjm hP hD hF 0 rfl hm
    have hP : va_P G.1 zCl ([(q8, zOb 8 [.int (iI 0), .ref (G.2 12), .int (iI 0)])]) H10 := hP
    have hD : va_D (zA (FC G ρ σ) H0) ([(q8, zOb 8 [.int (iI 0), .ref (G.2 12), .int (iI 0)])]) := hD
    have hH1 : HC G s0 ρ σ H10 := hH1.ext hE hF (fun a9 ha9 _ z => by have := hh.lt hE hO a9 ha9; omega)
    have hS := hS1
    have hPl1 : PIL G s0 ρ σ (St_ea σ a) q8 0 (fun _ => 0) (G.2 12) 0 (fun _ => 0) (fun _ _ => 0) H10 := ⟨⟨hP 0 _ rfl, Or.inl ⟨rfl, rfl⟩⟩, Nat.le_trans hO.1 hqn9, fun z => absurd rfl z, fun i hi => absurd hi (Nat.not_lt_zero i)⟩
    have hP : va_P G.1 zCl [] H10 := va_nil
    have hD : va_D (zA (FC G ρ σ) H0) [] := va_nilD
    refine lv_astore (lv' := [(4, .ref q8), (3, .ref (ρ (13, a, 0))), (0, .ref (ρ (0, 0, 0))), (1, .int (iI i)), (2, .int (iI ((W9 : Nat) : Int)))]) hx hb dX1_run_25 hl (by decide) rfl (fun ls hl => ?_)
    refine lv_iload_n hx hb dX1_run_27 rfl (lv_at hl 4 rfl) ?_
    refine lv_istore (lv' := [(5, .int (iI ((W9 : Nat) : Int))), (4, .ref q8), (3, .ref (ρ (13, a, 0))), (0, .ref (ρ (0, 0, 0))), (1, .int (iI i)), (2, .int (iI ((W9 : Nat) : Int)))]) hx hb dX1_run_28 hl (by decide) rfl (fun ls hl => ?_)
    have lp11 : ∀ (dlp11 : Nat) (n : Nat) (c : Nat → Nat) (arr : Nat) (md : Int) (r : Nat → Nat) (v : Nat → Nat → Int) (w9 : Nat) (f9 : Nat), f9 = dlp11 → (w9 < 10 ^ f9 ∧ 0 < f9 ∧ n + f9 ≤ 10) → (rnV σ (St_ea σ a) f9 w9 n v = rnV σ (St_ea σ a) 10 W9 0 (fun _ _ => 0)) → (arr ≠ G.2 12 → H0.size ≤ arr) → (w9 ≤ W9) → ∀ (H12 : Heap) (locs : List Loc) (ls : Array Slot), (HC G s0 ρ σ H12) → (PIL G s0 ρ σ (St_ea σ a) q8 n c arr md r v H12) → va_P G.1 zCl ([]) H12 → va_D (zA (FC G ρ σ) H0) ([]) → va_S (zA (FC G ρ σ) H0) H0 H12 locs → lv_has ls 6 [(5, .int (iI ((w9 : Nat) : Int))), (4, .ref q8), (3, .ref (ρ (13, a, 0))), (0, .ref (ρ (0, 0, 0))), (1, .int (iI i)), (2, .int (iI ((W9 : Nat) : Int)))] → W pp l ee rm_m_X1_run ss mm args below meth cd H12 locs (3 + 8 * (10 - f9)) (15 + 80 * (10 - f9)) Q (F0 mm 30 ls []) := by
      intro dlp11
      induction dlp11 using Nat.strongRecOn with
      | ind dlp11 ihlp11 =>
        intro n c arr md r v w9 f9 hdlp11 hwf hrn hna9 hwb H12 locs ls hH1 hPl1 hP hD hS hl
        have hap9 : ∀ a9, domC σ a9 → ρ a9 ≠ G.2 12 → ρ a9 ≠ q8 ∧ ρ a9 ≠ arr := fun a9 ha9 h12 => by have h9 := hh.lt hE hO a9 ha9; refine ⟨by omega, fun z => ?_⟩; have h8 := hna9 (fun y => h12 (z.trans y)); omega
        have hva := hH1.row (j := a) (by omega)
        have hEa := hH1.el (j := a) (by omega)
        have heaa := hH1.ea (j := a) (by omega)
        obtain ⟨hn16a, -⟩ := (hH1.ag heaa).n
        refine lv_aload_n hx hb dX1_run_30 rfl (lv_at hl 3 rfl) ?_
        refine lv_aload hx hb dX1_run_31 (lv_at hl 1 rfl) ?_
        refine lv_aload_n hx hb dX1_run_33 rfl (lv_at hl 2 rfl) ?_
        refine z_getn hC (k := 0) rfl in_X7 hEa.1 (by decide) q323 (fun _ h => h) rfl dX1_run_34 ?_
        refine lv_iload hx hb dX1_run_37 (lv_at hl 0 rfl) ?_
        refine lv_bipush (v := iI 10) hx hb dX1_run_39 (by decide) ?_
        refine z_rem hx hb (z := Int.tmod ((w9 : Nat) : Int) 10) dX1_run_41 (by omega) rfl ?_
        refine z_top (b := ((w9 % 10 : Nat) : Int)) (Int.tmod_eq_emod_of_nonneg (by omega)) ?_
        obtain ⟨sm, hxx⟩ := id hH1.2.2.1.1
        have hPl9 := hPl1
        have hsz9 : H0.size ≤ H12.size := hS.1
        refine z_goX ((3 + 8 * (10 - f9)) + 8) ((15 + 80 * (10 - f9)) + 80) (z_runVx (As := [.ref q8, .ref (ρ (6, St_ea σ a, 0)), .int (iI ((w9 % 10 : Nat) : Int))]) (rest := []) hC hml hl.1 (m_X1_step hE H12 (hO.ext (zS_F hS) hMo) ρ σ (St_ea σ a) q8 n c arr md r v (w9 % 10) hH1 hea0 hPl9 hap9 ⟨by omega, by omega⟩) (lw_V q1387 q1389 qs27 q62 q1390) rfl nd_X1_step rfl (z_rv hC (ci := 0) rfl hxx rfl) rfl (Nat.le_of_ble_eq_true rfl) ⟨Nat.le_of_ble_eq_true rfl, Nat.le_of_ble_eq_true rfl⟩ ⟨zfit (k := 8) (z := 200) rfl rfl (by omega), zfit (k := 80) (z := 2000) rfl rfl (by omega)⟩ dX1_run_42) ⟨zad (k := 8) rfl (by omega), zad (k := 80) rfl (by omega)⟩ hS (fun z hz => Or.inr (hz.elim (fun w => w ▸ hqn9) (fun w => w.1 ▸ hna9 w.2))) (fun E ce q9 Hx13 locs hp hF hS1 hce hcv hcl => ?_) (fun r H14 locs hp hF hS1 => ?_)
        · exact z_out hno hlk hX hS1 ⟨zle (z := 200) rfl (by omega), zle (z := 2000) rfl (by omega)⟩ hce hcv hcl (⟨Or.inr ⟨hp.1, iE, fun z => by obtain ⟨_, v9, e9⟩ := z; rw [ea9, hWn, ← hrn, rnV_none hp.2] at e9; cases e9⟩, hH1.ext hE hF (fun a9 ha9 h12 z => z.elim (hap9 a9 ha9 h12).1 (fun w => (hap9 a9 ha9 h12).2 w.1))⟩)
        obtain ⟨rfl, n2, v2, c2, arr2, md2, r2, hst, hPl1, hor⟩ := hp
        have hP : va_P G.1 zCl [] H14 := va_nil
        have hD : va_D (zA (FC G ρ σ) H0) [] := va_nilD
        have hP : va_P G.1 zCl ([]) H14 := hP
        have hD : va_D (zA (FC G ρ σ) H0) ([]) := hD
        have hH1 : HC G s0 ρ σ H14 := hH1.ext hE hF (fun a9 ha9 h12 z => z.elim (hap9 a9 ha9 h12).1 (fun w => (hap9 a9 ha9 h12).2 w.1))
        have hS := hS1
        have hna2 : arr2 ≠ G.2 12 → H0.size ≤ arr2 := fun z => hor.elim (fun w => w.1 ▸ hna9 w.2) (fun w => Nat.le_trans hsz9 w)
        refine lv_iload hx hb dX1_run_45 (lv_at hl 0 rfl) ?_
        refine lv_bipush (v := iI 10) hx hb dX1_run_47 (by decide) ?_
        refine z_div hx hb (z := Int.tdiv ((w9 : Nat) : Int) 10) dX1_run_49 (by omega) rfl ?_
        refine z_top (b := ((w9 / 10 : Nat) : Int)) (Int.tdiv_eq_ediv_of_nonneg (by omega)) ?_
        refine lv_istore (lv' := [(5, .int (iI ((w9 / 10 : Nat) : Int))), (4, .ref q8), (3, .ref (ρ (13, a, 0))), (0, .ref (ρ (0, 0, 0))), (1, .int (iI i)), (2, .int (iI ((W9 : Nat) : Int)))]) hx hb dX1_run_50 hl (by decide) rfl (fun ls hl => ?_)
        refine lv_iload hx hb dX1_run_52 (lv_at hl 0 rfl) ?_
        refine z_zgt (tgt := 30) hx hb dX1_run_54 (by decide) (by omega) (fun c15 => ?_) (fun c15 => ?_)
        · have hw0 : w9 / 10 ≠ 0 := by omega
          have hfd := pw10_0 hwf.1 hw0
          have hn10 := hPl1.1.n10
          exact W.widen (by omega) (by omega) (ihlp11 ((f9 - 1)) (by omega) n2 c2 arr2 md2 r2 v2 (w9 / 10) (f9 - 1) rfl (⟨pw10 hwf.2.1 hwf.1, by omega, by have := stp_le hst; omega⟩) (by rw [← hrn]; exact (rnV_go hwf.2.1 hst hw0).symm) hna2 (Nat.le_trans (Nat.div_le_self _ _) hwb) _ _ _ hH1 hPl1 hP hD hS hl)
        · have hen := rnV_end hwf.2.1 hst (by omega)
          rw [hrn] at hen
          have hn10 := hPl1.1.n10
          refine lv_aload hx hb dX1_run_57 (lv_at hl 1 rfl) ?_
          refine z_go ((3 + 8 * (10 - f9)) + 8) ((15 + 80 * (10 - f9)) + 80) (z_runV (As := []) (rest := []) hC hml hl.1 (m_J2_size hE H14 (hO.ext (zS_F hS) hMo) q8 n2 c2 arr2 md2 hPl1.1) (lw_V q229 q230 q231 q65 q232) rfl nd_J2_size rfl (z_rv hC (ci := 8) rfl hPl1.1.1 rfl) rfl (Nat.le_of_ble_eq_true rfl) ⟨Nat.le_of_ble_eq_true rfl, Nat.le_of_ble_eq_true rfl⟩ ⟨zfit (k := 0) (z := 200) rfl rfl (by omega), zfit (k := 0) (z := 2000) rfl rfl (by omega)⟩ dX1_run_59) ⟨zad (k := 0) rfl (by omega), zad (k := 0) rfl (by omega)⟩ hS (fun _ z => z.elim) (fun r H16 locs hp hF hS1 => ?_)
          obtain ⟨_, rfl, rfl⟩ := hp
          have hP := zpk hP hF
          have hP : va_P G.1 zCl ([]) H16 := hP
          have hD : va_D (zA (FC G ρ σ) H0) ([]) := hD
          have hH1 : HC G s0 ρ σ H16 := hH1.ext0 hE hF
          have hPl1 : PIL G s0 ρ σ (St_ea σ a) q8 n2 c2 arr2 md2 r2 v2 H16 := hPl1.ext0 hF
          have hS := hS1
          refine lv_iconst (v := iI 1) hx hb dX1_run_62 rfl ?_
          refine z_cne (tgt := 70) hx hb dX1_run_63 (by decide) (by omega) (fun c17 => ?_) (fun c17 => ?_)
          · refine lv_iconst (v := iI 0) hx hb dX1_run_70 rfl ?_
            refine z_goX (((3 + 8 * (10 - f9)) + 8) + 1) (((15 + 80 * (10 - f9)) + 80) + 6) (z_runSx (As := [.int (iI 0)]) (rest := []) hC hml hl.1 (m_X1_require hE H16 (hO.ext (zS_F hS) hMo) 0 (by decide)) (lw_S q905 q906 q62 q907) nd_X1_require rfl rfl (Nat.le_of_ble_eq_true rfl) ⟨Nat.le_of_ble_eq_true rfl, Nat.le_of_ble_eq_true rfl⟩ ⟨zfit (k := 1) (z := 200) rfl rfl (by omega), zfit (k := 6) (z := 2000) rfl rfl (by omega)⟩ dX1_run_71) ⟨zad (k := 1) rfl (by omega), zad (k := 6) rfl (by omega)⟩ hS (fun _ z => z.elim) (fun E ce q9 Hx18 locs hp hF hS1 hce hcv hcl => ?_) (fun r H19 locs hp hF hS1 => ?_)
            · exact z_out hno hlk hX hS1 ⟨zle (z := 200) rfl (by omega), zle (z := 2000) rfl (by omega)⟩ hce hcv hcl (⟨Or.inr ⟨hp.1, iE, fun z => by obtain ⟨_, v9, e9⟩ := z; rw [ea9, hWn, hen] at e9; injection e9 with e9; injection e9 with e9 _; omega⟩, hH1.ext0 hE hF⟩)
            exact (show False from by have h9 : (0 : Nat) = 1 := hp.2; omega).elim
          · refine lv_iconst (v := iI 1) hx hb dX1_run_66 rfl ?_
            refine lv_goto (tgt := 71) hx hb dX1_run_67 (by decide) ?_
            refine z_goX (((3 + 8 * (10 - f9)) + 8) + 1) (((15 + 80 * (10 - f9)) + 80) + 6) (z_runSx (As := [.int (iI 1)]) (rest := []) hC hml hl.1 (m_X1_require hE H16 (hO.ext (zS_F hS) hMo) 1 (by decide)) (lw_S q905 q906 q62 q907) nd_X1_require rfl rfl (Nat.le_of_ble_eq_true rfl) ⟨Nat.le_of_ble_eq_true rfl, Nat.le_of_ble_eq_true rfl⟩ ⟨zfit (k := 1) (z := 200) rfl rfl (by omega), zfit (k := 6) (z := 2000) rfl rfl (by omega)⟩ dX1_run_71) ⟨zad (k := 1) rfl (by omega), zad (k := 6) rfl (by omega)⟩ hS (fun _ z => z.elim) (fun E ce q9 Hx20 locs hp hF hS1 hce hcv hcl => ?_) (fun r H21 locs hp hF hS1 => ?_)
            · exact z_out hno hlk hX hS1 ⟨zle (z := 200) rfl (by omega), zle (z := 2000) rfl (by omega)⟩ hce hcv hcl (absurd hp.2 (by decide))
            obtain ⟨rfl, -⟩ := hp
            have hP := zpk hP hF
            have hP : va_P G.1 zCl ([]) H21 := hP
            have hD : va_D (zA (FC G ρ σ) H0) ([]) := hD
            have hH1 : HC G s0 ρ σ H21 := hH1.ext0 hE hF
            have hPl1 : PIL G s0 ρ σ (St_ea σ a) q8 n2 c2 arr2 md2 r2 v2 H21 := hPl1.ext0 hF
            have hS := hS1
            have en2 : n2 = 1 := by omega
            refine lv_aload_n hx hb dX1_run_74 rfl (lv_at hl 2 rfl) ?_
            refine lv_aload hx hb dX1_run_75 (lv_at hl 1 rfl) ?_
            refine lv_iconst (v := iI 0) hx hb dX1_run_77 rfl ?_
            refine z_go (((3 + 8 * (10 - f9)) + 8) + 1) (((15 + 80 * (10 - f9)) + 80) + 6) (z_runV (As := [.int (iI 0)]) (rest := [.ref (ρ (13, a, 0))]) hC hml hl.1 (m_J2_get hE H21 (hO.ext (zS_F hS) hMo) q8 n2 c2 arr2 md2 0 hPl1.1 (by omega)) (lw_V q372 q373 q374 q65 q375) rfl nd_J2_get rfl (z_rv hC (ci := 8) rfl hPl1.1.1 rfl) rfl (Nat.le_of_ble_eq_true rfl) ⟨Nat.le_of_ble_eq_true rfl, Nat.le_of_ble_eq_true rfl⟩ ⟨zfit (k := 0) (z := 200) rfl rfl (by omega), zfit (k := 0) (z := 2000) rfl rfl (by omega)⟩ dX1_run_78) ⟨zad (k := 0) rfl (by omega), zad (k := 0) rfl (by omega)⟩ hS (fun _ z => z.elim) (fun r H22 locs hp hF hS1 => ?_)
            obtain ⟨_, rfl, rfl⟩ := hp
            have hP := zpk hP hF
            have hP : va_P G.1 zCl ([]) H22 := hP
            have hD : va_D (zA (FC G ρ σ) H0) ([]) := hD
            have hH1 : HC G s0 ρ σ H22 := hH1.ext0 hE hF
            have hPl1 : PIL G s0 ρ σ (St_ea σ a) q8 n2 c2 arr2 md2 r2 v2 H22 := hPl1.ext0 hF
            have hS := hS1
            have hE0 := (hPl1.2.2.2 0 (by omega)).1
            have hv0 := (hPl1.2.2.2 0 (by omega)).2
            refine z_cast hC (ci := 6) rfl hE0.1 rfl q220 dX1_run_81 ?_
            have hsz9 : H0.size ≤ H22.size := hS.1
            refine z_go ((((3 + 8 * (10 - f9)) + 8) + 1) + 2) ((((15 + 80 * (10 - f9)) + 80) + 6) + 19) (z_runV (As := []) (rest := [.ref (ρ (13, a, 0))]) hC hml hl.1 (m_X7_copy hE H22 (hO.ext (zS_F hS) hMo) (ρ (0, 0, 0)) (ρ (6, St_ea σ a, 0)) (St_p σ) (St_d σ (St_ea σ a)) (St_n σ (St_ea σ a)) (St_kd σ (St_ea σ a)) (St_dv σ (St_ea σ a)) (St_sg σ (St_ea σ a)) (c2 0) (r2 0) ((v2 0))  (hH1.ag (k := St_ea σ a) (by omega)) hE0 hv0 ) (lw_V q1273 q1274 q1275 q92 q1276) rfl nd_X7_copy rfl (z_rv hC (ci := 6) rfl hE0.1 rfl) rfl (Nat.le_of_ble_eq_true rfl) ⟨Nat.le_of_ble_eq_true rfl, Nat.le_of_ble_eq_true rfl⟩ ⟨zfit (k := 2) (z := 200) rfl rfl (by omega), zfit (k := 19) (z := 2000) rfl rfl (by omega)⟩ dX1_run_84) ⟨zad (k := 2) rfl (by omega), zad (k := 19) rfl (by omega)⟩ hS (fun _ z => z.elim) (fun r H25 locs hp hF hS1 => ?_)
            obtain ⟨qe23, rfl, re24, hN⟩ := hp
            obtain ⟨hP, hD⟩ := zjn hP hD hS.1 hF hN
            have hP : va_P G.1 zCl ([(qe23, zOb 6 [.ref (ρ (6, St_ea σ a, 0)), .ref re24, .ref (ρ (0, 0, 0))]), (re24, zI G (St_n σ (St_ea σ a)) (v2 0))]) H25 := hP
            have hD : va_D (zA (FC G ρ σ) H0) ([(qe23, zOb 6 [.ref (ρ (6, St_ea σ a, 0)), .ref re24, .ref (ρ (0, 0, 0))]), (re24, zI G (St_n σ (St_ea σ a)) (v2 0))]) := hD
            have hH1 : HC G s0 ρ σ H25 := hH1.ext0 hE hF
            have hS := hS1
            have hDn : va_D (fun z => H0.size ≤ z) _ := va_D.weaken hN.2 (fun _ _ _ z => Nat.le_trans hsz9 z)
            have hq9 : H0.size ≤ qe23 := hDn.2 0 _ rfl
            have hr9 : H0.size ≤ re24 := hDn.2 1 _ rfl
            have hlt9 := hh.lt hE hO _ (domE 13 a (Or.inl rfl) (by omega))
            have hqn : qe23 ≠ ρ (13, a, 0) := by omega
            have hH2 := hH1
            have hR2 := hP 1 _ rfl
            refine z_go ((((3 + 8 * (10 - f9)) + 8) + 1) + 2) ((((15 + 80 * (10 - f9)) + 80) + 6) + 19) (z_runS (As := [.ref (ρ (13, a, 0)), .ref qe23]) (rest := []) hC hml hl.1 (m_X1_keep hE H25 (hO.ext (zS_F hS) hMo) ρ σ a qe23 re24 (v2 0) hH2 (by omega) ⟨hP 0 _ rfl, hP 1 _ rfl⟩ hv0 hqn) (lw_S q1155 q1156 q62 q1157) nd_X1_keep rfl rfl (Nat.le_of_ble_eq_true rfl) ⟨Nat.le_of_ble_eq_true rfl, Nat.le_of_ble_eq_true rfl⟩ ⟨zfit (k := 0) (z := 200) rfl rfl (by omega), zfit (k := 0) (z := 2000) rfl rfl (by omega)⟩ dX1_run_87) ⟨zad (k := 0) rfl (by omega), zad (k := 0) rfl (by omega)⟩ hS (fun z hz => Or.inl (hz ▸ FC.in hE hh.sep (domE 13 a (Or.inl rfl) (by omega)) (by simp))) (fun r H26 locs hp hF hS1 => ?_)
            obtain ⟨_, rfl, rfl, hm9⟩ := hp
            have hP : va_P G.1 zCl [] H26 := va_nil
            have hD : va_D (zA (FC G ρ σ) H0) [] := va_nilD
            have hpo := hH2.keepP hE (show a < St_ne σ by omega) hF hm9 (zAt.ext hR2 hF (Ne.symm (z_noArr hE (ci := 6) (t := 0) rfl (hH2.el (j := a) (by omega)).1 rfl hR2))) hO hh hr9 hv0
            have hP : va_P G.1 zCl ([]) H26 := hP
            have hD : va_D (zA (FC G ρ σ) H0) ([]) := hD
            have hS := hS1
            exact z_iret hC hrt hlk hQ hS ⟨zle (z := 200) rfl (by omega), zle (z := 2000) rfl (by omega)⟩ ⟨_, rfl, stEl σ a (v2 0), ⟨a, v2, ⟨by omega, by omega⟩, by omega, by rw [hWn, hen, en2], rfl, rfl⟩, hpo⟩ dX1_run_90
    exact W.widen (by omega) (by omega) (lp11 _ 0 (fun _ => 0) (G.2 12) 0 (fun _ => 0) (fun _ _ => 0) W9 10 rfl (⟨by omega, by omega, by omega⟩) rfl (fun z => absurd rfl z) (Nat.le_refl _) _ _ _ hH1 hPl1 hP hD hS hl)

