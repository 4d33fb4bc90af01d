/-! THE MODEL: kernels; what one asks of an element -/
set_option maxRecDepth 100000
theorem zpermD {A : Nat → Prop} {ws ws' : va_W} (h : va_D A ws) (p : List.Perm ws ws') : va_D A ws' :=
  va_D.of_pw ((List.Perm.pairwise_iff (R := fun x y : Nat × va_E => x.1 ≠ y.1) (fun h => Ne.symm h) p).mp h.pw) (fun x hx => by
    obtain ⟨i, hi⟩ := List.getElem?_of_mem (p.symm.subset hx)
    exact h.2 i x hi)
theorem zkil {q wy : Nat} {e f : va_E} {A B : va_W} : List.Perm (([(wy, f)] ++ (A ++ [])) ++ ([(q, e)] ++ (B ++ []))) ([(q, e), (wy, f)] ++ (B ++ (A ++ []))) := by
  simp only [List.append_nil, List.cons_append, List.nil_append]
  exact (List.perm_middle (l₁ := (wy, f) :: A) (a := (q, e)) (l₂ := B)).trans (List.Perm.cons _ (List.Perm.cons _ List.perm_append_comm))
theorem kilDn {A : Nat → Prop} {G : zG} {N q wy n : Nat} {ro rw : Nat → Nat} {F W : Nat → Nat → Int} (h : va_D A ([(q, zII G n (fun i => some (ro i))), (wy, zII G n (fun i => some (rw i)))] ++ (zRows G n n ro F ++ (zRows G n n rw W ++ [])))) (h1 : N ≤ q) (h2 : N ≤ wy) (h3 : ∀ i, i < n → N ≤ ro i) (h4 : ∀ i, i < n → N ≤ rw i) : va_D (fun z => N ≤ z) ([(q, zII G n (fun i => some (ro i))), (wy, zII G n (fun i => some (rw i)))] ++ (zRows G n n ro F ++ (zRows G n n rw W ++ []))) := by
  refine va_D.of_pw h.pw (fun x hx => ?_)
  simp only [List.mem_append, List.mem_cons, List.not_mem_nil, or_false] at hx
  rcases hx with (h | h) | h | h
  · rw [h]; exact h1
  · rw [h]; exact h2
  · obtain ⟨i, hi⟩ := List.getElem?_of_mem h
    obtain ⟨a, rfl⟩ := zRows_inv hi
    exact h3 i a
  · obtain ⟨i, hi⟩ := List.getElem?_of_mem h
    obtain ⟨a, rfl⟩ := zRows_inv hi
    exact h4 i a
theorem ways_step {k i : Nat} : (fun jj => if jj = k then va_up ((fun c => if c < k then eyeV c else fun _ => 0) k) k 1 else (fun c => if c < k then eyeV c else fun _ => 0) jj) i = (fun c => if c < k + 1 then eyeV c else fun _ => (0 : Int)) i := by
  by_cases e : i = k
  · subst e; funext j; simp [va_up, eyeV]
  · by_cases e2 : i < k
    · have h : i < k + 1 := by omega
      simp [e, e2, h]
    · have h : ¬ i < k + 1 := by omega
      simp [e, e2, h]
theorem zdrop2P {G : zG} {x y : Nat × va_E} {T : va_W} {H : Heap} (h : va_P G.1 zCl ([x, y] ++ T) H) : va_P G.1 zCl ([x] ++ T) H := mem_P h (fun z hz => by simp only [List.mem_append, List.mem_cons, List.not_mem_nil, or_false] at hz ⊢; rcases hz with h | h <;> simp [h])
theorem zdrop2D {A : Nat → Prop} {x y : Nat × va_E} {T : va_W} (h : va_D A ([x, y] ++ T)) : va_D A ([x] ++ T) := by
  refine va_D.of_pw (h.pw.sublist (List.Sublist.cons_cons _ (List.Sublist.cons _ (List.Sublist.refl _)))) (fun z hz => ?_)
  have h3 : z ∈ [x, y] ++ T := by simp only [List.mem_append, List.mem_cons, List.not_mem_nil, or_false] at hz ⊢; rcases hz with h | h <;> simp [h]
  obtain ⟨i, hi⟩ := List.getElem?_of_mem h3
  exact h.2 i z hi
theorem szV_0 {v : Nat → Int} : ∀ {n : Nat}, szV v n = 0 ↔ ∀ j, j < n → v j = 0
  | 0 => ⟨fun _ j h => absurd h (Nat.not_lt_zero j), fun _ => rfl⟩
  | n + 1 => by
    have ih := szV_0 (v := v) (n := n)
    simp only [szV]
    refine ⟨fun h j hj => ?_, fun h => ?_⟩
    · by_cases e : j = n
      · subst e
        by_cases e0 : v j = 0
        · exact e0
        · rw [if_neg e0] at h; omega
      · exact ih.mp (by omega) j (by omega)
    · rw [ih.mpr (fun j hj => h j (by omega)), if_pos (h n (by omega))]
theorem zeV_same {p : Int} {n : Nat} {t v : Nat → Int} (hp : pr357 p) (ht : rw_ok p n t) (hv : rw_ok p n v) : zeV n (plV p (-1) t v) = true ↔ ∀ j, j < n → t j = v j := by
  have h1 : zeV n (plV p (-1) t v) = true ↔ szV (plV p (-1) t v) n = 0 := by simp [zeV]
  rw [h1, szV_0]
  refine ⟨fun h j hj => ?_, fun h j hj => ?_⟩
  · have h2 : (t j + -1 * v j) % p = 0 := h j hj
    have a := ht j hj
    have b := hv j hj
    rcases hp with e | e | e <;> rw [e] at h2 a b <;> omega
  · show (t j + -1 * v j) % p = 0
    rw [h j hj, show v j + -1 * v j = 0 by omega, Int.zero_emod]
abbrev rm_m_X3_killer : Room := { frames := 5, cells := 120, slots := 2000, locals := 111 }
set_option maxHeartbeats 4000000 in
theorem m_X3_killer {l : Launch} {s0 : State} {G : zG} (hE : zE l s0 G) (H0 : Heap) (hO : zO s0 H0) (μ : Ro → Nat) (σ : St) (th : Int) (i j : Int) (hh : HM G s0 μ σ th H0) (hi : zi i ∧ zi j) : zM l s0 yX3_killer cX3_killer 6 (some FieldType.int) rm_m_X3_killer [.ref (μ (0, 0, 0)), .int (iI i), .int (iI j)] H0 (FM G μ σ) (HPM G s0 H0 μ σ [IOB, IAE, ISE] ((fun y σ' => ∃ (a b c : Nat) (w : Nat → Int), (i = a ∧ a < St_ne σ) ∧ (j = b ∧ b < St_ne σ) ∧ St_ea σ a = St_ea σ b ∧ KIL (St_p σ) (St_n σ (St_ea σ a)) (mxV (St_p σ) (St_ev σ b) (St_sg σ (St_ea σ a)) 1) c w ∧ σ' = stEl σ a w ∧ y = (c : Nat))) ((X2s σ i j (fun _ b => ∀ c, c < St_n σ (St_ea σ b) → ¬ freeCol (St_p σ) (St_n σ (St_ea σ b)) (mxV (St_p σ) (St_ev σ b) (St_sg σ (St_ea σ b)) 1) c)))) := by
  refine z_met hE (by decide +kernel) (Nat.le_of_ble_eq_true rfl) ?_
  intro pp ee ss mm args below meth cd Q ls hC hml hrt hlk hnm hH hQ hS hl
  have hx := hC.x
  have hb := hC.b
  have hl : lv_has ls 6 [(0, .ref (μ (0, 0, 0))), (1, .int (iI i)), (2, .int (iI j))] := hl
  have hP : va_P G.1 zCl [] H0 := va_nil
  have hD : va_D (zA (FM G μ σ) H0) [] := va_nilD
  have hMo : ∀ z, (FM G μ σ) z → s0.heap.size ≤ z := fun z hz => FM.ge hh.sep hz
  have hH1 := hh
  obtain ⟨hp, hna, hal, hne9, hel9, hmr9⟩ := id hh.ok
  have hp7 : 0 < St_p σ ∧ St_p σ ≤ 7 := by rcases hp with h | h | h <;> rw [h] <;> decide
  have hP : va_P G.1 zCl [((μ (0, 0, 0)), zOb 2 [.int (iI th), .int (iI (St_p σ)), .int (iI ((St_kn σ : Nat) : Int)), .ref (μ (1, 0, 0)), .ref (μ (3, 0, 0))])] H0 := zP1 hh.2.2.1.1
  have hD : va_D (zA (FM G μ σ) H0) [((μ (0, 0, 0)), zOb 2 [.int (iI th), .int (iI (St_p σ)), .int (iI ((St_kn σ : Nat) : Int)), .ref (μ (1, 0, 0)), .ref (μ (3, 0, 0))])] := zD1 (Or.inl (FM.in hE hh.sep (domM0 0 (by omega)) (by simp [rAm])))
  refine lv_aload_n hx hb dX3_killer_0 rfl (lv_at hl 0 rfl) ?_
  refine lv_iconst (v := iI 0) hx hb dX3_killer_1 rfl ?_
  refine z_putO hC hP hD hS 0 (k := 0) rfl rfl in_X3 tyX3_ok nmX3 (by decide) q1495 (fun _ h => h) rfl rfl rfl rfl (Nat.le_of_ble_eq_true rfl) (ws' := [((μ (0, 0, 0)), zOb 2 [.int (iI 0), .int (iI (St_p σ)), .int (iI ((St_kn σ : Nat) : Int)), .ref (μ (1, 0, 0)), .ref (μ (3, 0, 0))])]) rfl dX3_killer_2 (fun H1 locs hP hD hS hZ1 hZ2 => ?_)
  have hH1 : HM G s0 μ σ 0 H1 := HM.thr hE hH1 (zF.one hZ1 hZ2) (hP 0 _ rfl)
  have hP : va_P G.1 zCl [] H1 := va_nil
  have hD : va_D (zA (FM G μ σ) H0) [] := va_nilD
  refine lv_aload_n hx hb dX3_killer_5 rfl (lv_at hl 0 rfl) ?_
  refine lv_iload_n hx hb dX3_killer_6 rfl (lv_at hl 1 rfl) ?_
  refine z_go 0 0 (z_runV (As := [.int (iI i)]) (rest := []) hC hml hl.1 (m_X3_isElement hE H1 (hO.ext (zS_F hS) hMo) μ σ 0 i hH1 hi.1) (lw_V q1650 q1652 qs35 q67 q1653) rfl nd_X3_isElement rfl (z_rv hC (ci := 2) rfl hH1.2.2.1.1 rfl) rfl (Nat.le_of_ble_eq_true rfl) ⟨Nat.le_of_ble_eq_true rfl, Nat.le_of_ble_eq_true rfl⟩ ⟨zfit (k := 0) (z := 120) rfl rfl (by omega), zfit (k := 0) (z := 2000) rfl rfl (by omega)⟩ dX3_killer_7) ⟨zad (k := 0) rfl (by omega), zad (k := 0) rfl (by omega)⟩ hS (fun _ z => z.elim) (fun r H2 locs hp hF hS1 => ?_)
  obtain ⟨_, rfl, rfl⟩ := hp
  have hP := zpk hP hF
  have hP : va_P G.1 zCl ([]) H2 := hP
  have hD : va_D (zA (FM G μ σ) H0) ([]) := hD
  have hH1 : HM G s0 μ σ 0 H2 := hH1.ext0 hE hF
  have hS := hS1
  obtain ⟨fl, hfl, hfl2⟩ : ∃ fl : Nat, fl ≤ 1 ∧ (if 0 ≤ i ∧ i < (((St_ne σ) : Nat) : Int) then (1 : Int) else 0) = fl ∧ (fl = 1 ↔ 0 ≤ i ∧ i < (((St_ne σ) : Nat) : Int)) := by by_cases h : 0 ≤ i ∧ i < (((St_ne σ) : Nat) : Int); exact ⟨1, by decide, by rw [if_pos h]; rfl, ⟨fun _ => h, fun _ => rfl⟩⟩; exact ⟨0, by decide, by rw [if_neg h]; rfl, ⟨fun z => absurd z (by decide), fun z => absurd z h⟩⟩
  refine z_top (b := ((fl : Nat) : Int)) (hfl2.1) ?_
  refine z_zeq (tgt := 21) hx hb dX3_killer_10 (by decide) (by omega) (fun c3 => ?_) (fun c3 => ?_)
  · refine lv_aload_n hx hb dX3_killer_21 rfl (lv_at hl 0 rfl) ?_
    refine lv_iconst (v := iI 1) hx hb dX3_killer_22 rfl ?_
    have hHb := hH1
    refine z_go 0 0 (z_runV (As := [.int (iI 1)]) (rest := []) hC hml hl.1 (m_X3_no hE H2 (hO.ext (zS_F hS) hMo) μ σ 0 1 hHb) (lw_V q1520 q1522 qs29 q67 q1523) rfl nd_X3_no rfl (z_rv hC (ci := 2) rfl hHb.2.2.1.1 rfl) rfl (Nat.le_of_ble_eq_true rfl) ⟨Nat.le_of_ble_eq_true rfl, Nat.le_of_ble_eq_true rfl⟩ ⟨zfit (k := 0) (z := 120) rfl rfl (by omega), zfit (k := 0) (z := 2000) rfl rfl (by omega)⟩ dX3_killer_23) ⟨zad (k := 0) rfl (by omega), zad (k := 0) rfl (by omega)⟩ hS (fun z hz => Or.inl (hz ▸ FM.in hE hh.sep (domM0 0 (by omega)) (by simp [rAm]))) (fun r H4 locs hp hF hS1 => ?_)
    obtain ⟨_, rfl, rfl, hx9⟩ := hp
    have hP : va_P G.1 zCl [] H4 := va_nil
    have hD : va_D (zA (FM G μ σ) H0) [] := va_nilD
    have hP : va_P G.1 zCl ([]) H4 := hP
    have hD : va_D (zA (FM G μ σ) H0) ([]) := hD
    have hS := hS1
    have hH9 : HM G s0 μ σ ((1 : Nat) : Int) H4 := HM.thr hE hHb hF hx9
    exact z_iret hC hrt hlk hQ hS ⟨zle (z := 120) rfl (by omega), zle (z := 2000) rfl (by omega)⟩ ⟨_, rfl, 1, σ, PoM.same hH9, Or.inr ⟨by decide, rfl, by decide, Or.inl (Or.inl ⟨rfl, fun z9 => by have h9 := hfl2.2.mpr (z9.1); omega⟩)⟩⟩ dX3_killer_26
  · have hok9 := hfl2.2.mp (by omega)
    obtain ⟨a, rfl⟩ : ∃ a : Nat, i = a := ⟨i.toNat, by omega⟩
    have ha9 : a < St_ne σ := by omega
    refine lv_aload_n hx hb dX3_killer_13 rfl (lv_at hl 0 rfl) ?_
    refine lv_iload_n hx hb dX3_killer_14 rfl (lv_at hl 2 rfl) ?_
    refine z_go 0 0 (z_runV (As := [.int (iI j)]) (rest := []) hC hml hl.1 (m_X3_isElement hE H2 (hO.ext (zS_F hS) hMo) μ σ 0 j hH1 hi.2) (lw_V q1650 q1652 qs35 q67 q1653) rfl nd_X3_isElement rfl (z_rv hC (ci := 2) rfl hH1.2.2.1.1 rfl) rfl (Nat.le_of_ble_eq_true rfl) ⟨Nat.le_of_ble_eq_true rfl, Nat.le_of_ble_eq_true rfl⟩ ⟨zfit (k := 0) (z := 120) rfl rfl (by omega), zfit (k := 0) (z := 2000) rfl rfl (by omega)⟩ dX3_killer_15) ⟨zad (k := 0) rfl (by omega), zad (k := 0) rfl (by omega)⟩ hS (fun _ z => z.elim) (fun r H5 locs hp hF hS1 => ?_)
    obtain ⟨_, rfl, rfl⟩ := hp
    have hP := zpk hP hF
    have hP : va_P G.1 zCl ([]) H5 := hP
    have hD : va_D (zA (FM G μ σ) H0) ([]) := hD
    have hH1 : HM G s0 μ σ 0 H5 := hH1.ext0 hE hF
    have hS := hS1
    obtain ⟨fl, hfl, hfl2⟩ : ∃ fl : Nat, fl ≤ 1 ∧ (if 0 ≤ j ∧ j < (((St_ne σ) : Nat) : Int) then (1 : Int) else 0) = fl ∧ (fl = 1 ↔ 0 ≤ j ∧ j < (((St_ne σ) : Nat) : Int)) := by by_cases h : 0 ≤ j ∧ j < (((St_ne σ) : Nat) : Int); exact ⟨1, by decide, by rw [if_pos h]; rfl, ⟨fun _ => h, fun _ => rfl⟩⟩; exact ⟨0, by decide, by rw [if_neg h]; rfl, ⟨fun z => absurd z (by decide), fun z => absurd z h⟩⟩
    refine z_top (b := ((fl : Nat) : Int)) (hfl2.1) ?_
    refine z_zne (tgt := 27) hx hb dX3_killer_18 (by decide) (by omega) (fun c6 => ?_) (fun c6 => ?_)
    · have hok9 := hfl2.2.mp (by omega)
      obtain ⟨b, rfl⟩ : ∃ b : Nat, j = b := ⟨j.toNat, by omega⟩
      have hb9 : b < St_ne σ := by omega
      refine lv_aload_n hx hb dX3_killer_27 rfl (lv_at hl 0 rfl) ?_
      refine lv_iload_n hx hb dX3_killer_28 rfl (lv_at hl 1 rfl) ?_
      refine lv_iload_n hx hb dX3_killer_29 rfl (lv_at hl 2 rfl) ?_
      refine z_go 0 0 (z_runV (As := [.int (iI ((a : Nat) : Int)), .int (iI ((b : Nat) : Int))]) (rest := []) hC hml hl.1 (m_X3_areOne hE H5 (hO.ext (zS_F hS) hMo) μ σ 0 a b hH1 ⟨by omega, by omega⟩) (lw_V q1662 q1664 qs37 q67 q1665) rfl nd_X3_areOne rfl (z_rv hC (ci := 2) rfl hH1.2.2.1.1 rfl) rfl (Nat.le_of_ble_eq_true rfl) ⟨Nat.le_of_ble_eq_true rfl, Nat.le_of_ble_eq_true rfl⟩ ⟨zfit (k := 0) (z := 120) rfl rfl (by omega), zfit (k := 0) (z := 2000) rfl rfl (by omega)⟩ dX3_killer_30) ⟨zad (k := 0) rfl (by omega), zad (k := 0) rfl (by omega)⟩ hS (fun _ z => z.elim) (fun r H7 locs hp hF hS1 => ?_)
      obtain ⟨_, rfl, rfl⟩ := hp
      have hP := zpk hP hF
      have hP : va_P G.1 zCl ([]) H7 := hP
      have hD : va_D (zA (FM G μ σ) H0) ([]) := hD
      have hH1 : HM G s0 μ σ 0 H7 := hH1.ext0 hE hF
      have hS := hS1
      obtain ⟨fl, hfl, hfl2⟩ : ∃ fl : Nat, fl ≤ 1 ∧ (if St_ea σ a = St_ea σ b then (1 : Int) else 0) = fl ∧ (fl = 1 ↔ St_ea σ a = St_ea σ b) := by by_cases h : St_ea σ a = St_ea σ b; exact ⟨1, by decide, by rw [if_pos h]; rfl, ⟨fun _ => h, fun _ => rfl⟩⟩; exact ⟨0, by decide, by rw [if_neg h]; rfl, ⟨fun z => absurd z (by decide), fun z => absurd z h⟩⟩
      refine z_top (b := ((fl : Nat) : Int)) (hfl2.1) ?_
      refine z_zne (tgt := 42) hx hb dX3_killer_33 (by decide) (by omega) (fun c8 => ?_) (fun c8 => ?_)
      · have hone : St_ea σ a = St_ea σ b := hfl2.2.mp (by omega)
        have hea := hh.ea (j := a) (by omega)
        have hnn := hh.n hea
        have hRb := (hH1.el (j := b) (by omega)).2
        have hVb := hH1.row (j := b) (by omega)
        rw [← hone] at hRb hVb
        refine lv_aload_n hx hb dX3_killer_42 rfl (lv_at hl 0 rfl) ?_
        refine lv_iload_n hx hb dX3_killer_43 rfl (lv_at hl 2 rfl) ?_
        refine z_go 0 0 (z_runV (As := [.int (iI ((b : Nat) : Int))]) (rest := []) hC hml hl.1 (m_X3_row hE H7 (hO.ext (zS_F hS) hMo) μ σ 0 b hH1 (by omega)) (lw_V q1654 q1656 qs36 q67 q1657) rfl nd_X3_row rfl (z_rv hC (ci := 2) rfl hH1.2.2.1.1 rfl) rfl (Nat.le_of_ble_eq_true rfl) ⟨Nat.le_of_ble_eq_true rfl, Nat.le_of_ble_eq_true rfl⟩ ⟨zfit (k := 0) (z := 120) rfl rfl (by omega), zfit (k := 0) (z := 2000) rfl rfl (by omega)⟩ dX3_killer_44) ⟨zad (k := 0) rfl (by omega), zad (k := 0) rfl (by omega)⟩ hS (fun _ z => z.elim) (fun r H9 locs hp hF hS1 => ?_)
        obtain ⟨_, rfl, rfl⟩ := hp
        have hP := zpk hP hF
        have hP : va_P G.1 zCl ([]) H9 := hP
        have hD : va_D (zA (FM G μ σ) H0) ([]) := hD
        have hH1 : HM G s0 μ σ 0 H9 := hH1.ext0 hE hF
        have hS := hS1
        have hRb := (hH1.el (j := b) (by omega)).2
        have hVb := hH1.row (j := b) (by omega)
        rw [← hone] at hRb hVb
        refine z_alen hC 0 hRb rfl (y := ((St_n σ (St_ea σ a) : Nat) : Int)) rfl dX3_killer_47 ?_
        refine lv_istore_n (lv' := [(3, .int (iI ((St_n σ (St_ea σ a) : Nat) : Int))), (0, .ref (μ (0, 0, 0))), (1, .int (iI ((a : Nat) : Int))), (2, .int (iI ((b : Nat) : Int)))]) hx hb dX3_killer_48 rfl hl (by decide) rfl (fun ls hl => ?_)
        refine lv_iload_n hx hb dX3_killer_49 rfl (lv_at hl 0 rfl) ?_
        refine lv_iload_n hx hb dX3_killer_50 rfl (lv_at hl 0 rfl) ?_
        refine z_multi hC hP hD hS (n := St_n σ (St_ea σ a)) (c1 := 17) (s1 := 272) q1743 rfl rfl (by omega) ⟨zle (z := 120) rfl (by omega), zle (z := 2000) rfl (by omega)⟩ ⟨by omega, by omega⟩ dX3_killer_51 (fun q10 H11 hq0q10 hq1q10 hP hD hS hF => ?_)
        have hP : va_P G.1 zCl ([(q10, zII G (St_n σ (St_ea σ a)) (fun i => some (q10 + 1 + i)))] ++ (zRows G (St_n σ (St_ea σ a)) (St_n σ (St_ea σ a)) (fun i => q10 + 1 + i) (fun _ _ => 0) ++ [])) H11 := hP
        have hD : va_D (zA (FM G μ σ) H0) ([(q10, zII G (St_n σ (St_ea σ a)) (fun i => some (q10 + 1 + i)))] ++ (zRows G (St_n σ (St_ea σ a)) (St_n σ (St_ea σ a)) (fun i => q10 + 1 + i) (fun _ _ => 0) ++ [])) := hD
        have hH1 : HM G s0 μ σ 0 H11 := hH1.ext0 hE hF
        refine lv_astore (lv' := [(4, .ref q10), (3, .int (iI ((St_n σ (St_ea σ a) : Nat) : Int))), (0, .ref (μ (0, 0, 0))), (1, .int (iI ((a : Nat) : Int))), (2, .int (iI ((b : Nat) : Int)))]) hx hb dX3_killer_55 hl (by decide) rfl (fun ls hl => ?_)
        refine lv_iconst (v := iI 0) hx hb dX3_killer_57 rfl ?_
        refine lv_istore (lv' := [(5, .int (iI 0)), (4, .ref q10), (3, .int (iI ((St_n σ (St_ea σ a) : Nat) : Int))), (0, .ref (μ (0, 0, 0))), (1, .int (iI ((a : Nat) : Int))), (2, .int (iI ((b : Nat) : Int)))]) hx hb dX3_killer_58 hl (by decide) rfl (fun ls hl => ?_)
        have hwyn : H0.size ≤ q10 := hq0q10
        have hP : va_P G.1 zCl ([(q10, zII G (St_n σ (St_ea σ a)) (fun i => some (q10 + 1 + i)))] ++ (zRows G (St_n σ (St_ea σ a)) (St_n σ (St_ea σ a)) (fun i => q10 + 1 + i) (fun c => if c < 0 then eyeV c else fun _ => 0) ++ [])) H11 := by rw [zRows_congr (F' := fun c => if c < 0 then eyeV c else fun _ => 0) (fun i _ => rfl) (fun i hi => (if_neg (Nat.not_lt_zero i)).symm)] at hP; exact hP
        have hD : va_D (zA (FM G μ σ) H0) ([(q10, zII G (St_n σ (St_ea σ a)) (fun i => some (q10 + 1 + i)))] ++ (zRows G (St_n σ (St_ea σ a)) (St_n σ (St_ea σ a)) (fun i => q10 + 1 + i) (fun c => if c < 0 then eyeV c else fun _ => 0) ++ [])) := by rw [zRows_congr (F' := fun c => if c < 0 then eyeV c else fun _ => 0) (fun i _ => rfl) (fun i hi => (if_neg (Nat.not_lt_zero i)).symm)] at hD; exact hD
        have lp12 : ∀ (dlp12 : Nat) (k : Nat), St_n σ (St_ea σ a) - k = dlp12 → (k ≤ St_n σ (St_ea σ a)) → ∀ (H13 : Heap) (locs : List Loc) (ls : Array Slot), (HM G s0 μ σ 0 H13) → va_P G.1 zCl ([(q10, zII G (St_n σ (St_ea σ a)) (fun i => some (q10 + 1 + i)))] ++ (zRows G (St_n σ (St_ea σ a)) (St_n σ (St_ea σ a)) (fun i => q10 + 1 + i) (fun c => if c < k then eyeV c else fun _ => 0) ++ [])) H13 → va_D (zA (FM G μ σ) H0) ([(q10, zII G (St_n σ (St_ea σ a)) (fun i => some (q10 + 1 + i)))] ++ (zRows G (St_n σ (St_ea σ a)) (St_n σ (St_ea σ a)) (fun i => q10 + 1 + i) (fun c => if c < k then eyeV c else fun _ => 0) ++ [])) → va_S (zA (FM G μ σ) H0) H0 H13 locs → lv_has ls 6 [(5, .int (iI ((k : Nat) : Int))), (4, .ref q10), (3, .int (iI ((St_n σ (St_ea σ a) : Nat) : Int))), (0, .ref (μ (0, 0, 0))), (1, .int (iI ((a : Nat) : Int))), (2, .int (iI ((b : Nat) : Int)))] → W pp l ee rm_m_X3_killer ss mm args below meth cd H13 locs 17 272 Q (F0 mm 60 ls []) := by
          intro dlp12
          induction dlp12 using Nat.strongRecOn with
          | ind dlp12 ihlp12 =>
            intro k hdlp12 hk H13 locs ls hH1 hP hD hS hl
            refine lv_iload hx hb dX3_killer_60 (lv_at hl 0 rfl) ?_
            refine lv_iload_n hx hb dX3_killer_62 rfl (lv_at hl 2 rfl) ?_
            refine z_cge (tgt := 81) hx hb dX3_killer_63 (by decide) (by omega) (fun c14 => ?_) (fun c14 => ?_)
            · have ek : k = St_n σ (St_ea σ a) := by omega
              have hP : va_P G.1 zCl ([(q10, zII G (St_n σ (St_ea σ a)) (fun i => some (q10 + 1 + i)))] ++ (zRows G (St_n σ (St_ea σ a)) (St_n σ (St_ea σ a)) (fun i => q10 + 1 + i) eyeV ++ [])) H13 := by rw [zRows_congr (F' := eyeV) (fun i _ => rfl) (fun i hi => if_pos (by omega))] at hP; exact hP
              have hD : va_D (zA (FM G μ σ) H0) ([(q10, zII G (St_n σ (St_ea σ a)) (fun i => some (q10 + 1 + i)))] ++ (zRows G (St_n σ (St_ea σ a)) (St_n σ (St_ea σ a)) (fun i => q10 + 1 + i) eyeV ++ [])) := by rw [zRows_congr (F' := eyeV) (fun i _ => rfl) (fun i hi => if_pos (by omega))] at hD; exact hD
              have hl : lv_has ls 6 [(4, .ref q10), (3, .int (iI ((St_n σ (St_ea σ a) : Nat) : Int))), (0, .ref (μ (0, 0, 0))), (1, .int (iI ((a : Nat) : Int))), (2, .int (iI ((b : Nat) : Int)))] := lv_sub hl [1, 2, 3, 4, 5] rfl
              refine lv_aload_n hx hb dX3_killer_81 rfl (lv_at hl 2 rfl) ?_
              refine lv_aload_n hx hb dX3_killer_82 rfl (lv_at hl 2 rfl) ?_
              refine lv_iload_n hx hb dX3_killer_83 rfl (lv_at hl 4 rfl) ?_
              refine lv_iconst (v := iI 1) hx hb dX3_killer_84 rfl ?_
              have hPw := hP
              have hDw := hD
              have hsz9 : H0.size ≤ H13.size := hS.1
              refine z_go 57 872 (z_runV (As := [.int (iI ((b : Nat) : Int)), .int (iI 1)]) (rest := [.ref (μ (0, 0, 0))]) hC hml hl.1 (m_X3_columns hE H13 (hO.ext (zS_F hS) hMo) μ σ 0 b 1 hH1 (by omega) (by decide)) (lw_V q1744 q1746 qs43 q67 q1747) rfl nd_X3_columns rfl (z_rv hC (ci := 2) rfl hH1.2.2.1.1 rfl) rfl (Nat.le_of_ble_eq_true rfl) ⟨Nat.le_of_ble_eq_true rfl, Nat.le_of_ble_eq_true rfl⟩ ⟨zfit (k := 40) (z := 120) rfl rfl (by omega), zfit (k := 600) (z := 2000) rfl rfl (by omega)⟩ dX3_killer_85) ⟨zad (k := 40) rfl (by omega), zad (k := 600) rfl (by omega)⟩ hS (fun _ z => z.elim) (fun r H15 locs hp hF hS1 => ?_)
              obtain ⟨qc, rfl, ro, F, hFc, hN⟩ := hp
              rw [← hone] at hFc hN
              have hP := mem_P (zjn hPw hDw hS.1 hF hN).1 (fun x hx => (zkil (A := zRows G (St_n σ (St_ea σ a)) (St_n σ (St_ea σ a)) (fun i => q10 + 1 + i) eyeV) (B := zRows G (St_n σ (St_ea σ a)) (St_n σ (St_ea σ a)) ro F)).symm.subset hx)
              have hD := zpermD (zjn hPw hDw hS.1 hF hN).2 (zkil (A := zRows G (St_n σ (St_ea σ a)) (St_n σ (St_ea σ a)) (fun i => q10 + 1 + i) eyeV) (B := zRows G (St_n σ (St_ea σ a)) (St_n σ (St_ea σ a)) ro F))
              have hP : va_P G.1 zCl ([(qc, zII G (St_n σ (St_ea σ a)) (fun i => some (ro i))), (q10, zII G (St_n σ (St_ea σ a)) (fun i => some (q10 + 1 + i)))] ++ (zRows G (St_n σ (St_ea σ a)) (St_n σ (St_ea σ a)) ro F ++ (zRows G (St_n σ (St_ea σ a)) (St_n σ (St_ea σ a)) (fun i => q10 + 1 + i) eyeV ++ []))) H15 := hP
              have hD : va_D (zA (FM G μ σ) H0) ([(qc, zII G (St_n σ (St_ea σ a)) (fun i => some (ro i))), (q10, zII G (St_n σ (St_ea σ a)) (fun i => some (q10 + 1 + i)))] ++ (zRows G (St_n σ (St_ea σ a)) (St_n σ (St_ea σ a)) ro F ++ (zRows G (St_n σ (St_ea σ a)) (St_n σ (St_ea σ a)) (fun i => q10 + 1 + i) eyeV ++ []))) := hD
              have hH1 : HM G s0 μ σ 0 H15 := hH1.ext0 hE hF
              have hS := hS1
              refine lv_aload hx hb dX3_killer_88 (lv_at hl 0 rfl) ?_
              refine lv_iconst (v := iI 1) hx hb dX3_killer_90 rfl ?_
              have hgc : ∀ i, i < St_n σ (St_ea σ a) → H0.size ≤ ro i := fun i hi => Nat.le_trans hsz9 (hN.2.2 (1 + i) _ (zR_at (L := 1) rfl hi))
              have hgq : H0.size ≤ qc := Nat.le_trans hsz9 (hN.2.2 0 _ rfl)
              have hDn := kilDn hD hgq hwyn hgc (fun i hi => by show H0.size ≤ q10 + 1 + i; omega)
              have hHb := hH1
              have hDn2 : va_D (fun y => s0.heap.size ≤ y ∧ ∀ c, dmMo σ c → μ c ≠ G.2 12 → μ c ≠ y) _ := va_D.weaken hDn (fun k x hx z => (⟨Nat.le_trans hO.1 z, fun c hc _ e => by have := hh.lt hE hO c hc; have z9 : H0.size ≤ x.1 := z; omega⟩ : s0.heap.size ≤ x.1 ∧ ∀ c, dmMo σ c → μ c ≠ G.2 12 → μ c ≠ x.1))
              refine z_go 58 888 (z_runV (As := [.ref qc, .ref q10, .int (iI 1)]) (rest := []) hC hml hl.1 (m_X3_free_1 hE H15 (hO.ext (zS_F hS) hMo) μ σ 0 qc (St_n σ (St_ea σ a)) ro F (mxV (St_p σ) (St_ev σ b) (St_sg σ (St_ea σ a)) 1) q10 (fun i => q10 + 1 + i) hHb hnn hP hDn2 (fun c hc i hi => by rw [hFc c i hc hi]; exact mxV_in hp _ _ _ _ _) (fun c i hc hi => hFc c i hc hi)) (lw_V q1749 q1751 qs44 q67 q1752) rfl nd_X3_free rfl (z_rv hC (ci := 2) rfl hHb.2.2.1.1 rfl) rfl (Nat.le_of_ble_eq_true rfl) ⟨Nat.le_of_ble_eq_true rfl, Nat.le_of_ble_eq_true rfl⟩ ⟨zfit (k := 1) (z := 120) rfl rfl (by omega), zfit (k := 16) (z := 2000) rfl rfl (by omega)⟩ dX3_killer_91) ⟨zad (k := 1) rfl (by omega), zad (k := 16) rfl (by omega)⟩ hS (fun z hz => by obtain ⟨e, he⟩ := hz; obtain ⟨i, hi⟩ := List.mem_iff_getElem?.mp he; exact Or.inr (hDn.2 i _ hi)) (fun r H16 locs hp hF hS1 => ?_)
              obtain ⟨fy9, rfl, hfy⟩ := hp
              have hP : va_P G.1 zCl [] H16 := va_nil
              have hD : va_D (zA (FM G μ σ) H0) [] := va_nilD
              have hH1 : HM G s0 μ σ 0 H16 := hHb.ext hE hF (fun a9 ha9 h12 hz => by obtain ⟨e, he⟩ := hz; obtain ⟨i, hi⟩ := List.mem_iff_getElem?.mp he; exact (hDn2.2 i _ hi).2 a9 ha9 h12 rfl)
              have hP : va_P G.1 zCl ([]) H16 := hP
              have hD : va_D (zA (FM G μ σ) H0) ([]) := hD
              have hS := hS1
              have hfb : 0 ≤ fy9 ∧ fy9 ≤ 16 := by rcases hfy with ⟨e, -⟩ | ⟨c, w, e, hk9, -⟩; omega; have := hk9.1; omega
              refine lv_istore (lv' := [(5, .int (iI fy9)), (4, .ref q10), (3, .int (iI ((St_n σ (St_ea σ a) : Nat) : Int))), (0, .ref (μ (0, 0, 0))), (1, .int (iI ((a : Nat) : Int))), (2, .int (iI ((b : Nat) : Int)))]) hx hb dX3_killer_94 hl (by decide) rfl (fun ls hl => ?_)
              refine lv_iload hx hb dX3_killer_96 (lv_at hl 0 rfl) ?_
              refine lv_iload_n hx hb dX3_killer_98 rfl (lv_at hl 2 rfl) ?_
              refine z_cne (tgt := 108) hx hb dX3_killer_99 (by decide) (by omega) (fun c17 => ?_) (fun c17 => ?_)
              · obtain ⟨c, w, ec, hkil, hrw9, hwy9⟩ := hfy.resolve_left (fun z => by have := z.1; omega)
                rw [ec] at hl
                have hcn := hkil.1
                refine lv_aload_n hx hb dX3_killer_108 rfl (lv_at hl 3 rfl) ?_
                refine lv_iload_n hx hb dX3_killer_109 rfl (lv_at hl 4 rfl) ?_
                refine lv_aload hx hb dX3_killer_110 (lv_at hl 1 rfl) ?_
                refine lv_iload hx hb dX3_killer_112 (lv_at hl 0 rfl) ?_
                refine z_aald hC hwy9 (k := c) rfl (by omega) (q := (q10 + 1 + c)) rfl dX3_killer_114 ?_
                have hP : va_P G.1 zCl [((q10 + 1 + c), zI G (St_n σ (St_ea σ a)) w)] H16 := zP1 hrw9
                have hD : va_D (zA (FM G μ σ) H0) [((q10 + 1 + c), zI G (St_n σ (St_ea σ a)) w)] := zD1 (Or.inr (by omega))
                have hHb := hH1
                have hRb := hP 0 _ rfl
                refine z_go 58 888 (z_runV (As := [.int (iI ((a : Nat) : Int)), .ref (q10 + 1 + c)]) (rest := []) hC hml hl.1 (m_X3_put hE H16 (hO.ext (zS_F hS) hMo) μ σ 0 a (q10 + 1 + c) (w) hHb (by omega) hRb hkil.2.2.2.2.1) (lw_V q1671 q1673 qs39 q67 q1674) rfl nd_X3_put rfl (z_rv hC (ci := 2) rfl hHb.2.2.1.1 rfl) rfl (Nat.le_of_ble_eq_true rfl) ⟨Nat.le_of_ble_eq_true rfl, Nat.le_of_ble_eq_true rfl⟩ ⟨zfit (k := 0) (z := 120) rfl rfl (by omega), zfit (k := 0) (z := 2000) rfl rfl (by omega)⟩ dX3_killer_115) ⟨zad (k := 0) rfl (by omega), zad (k := 0) rfl (by omega)⟩ hS (fun z hz => Or.inl (hz ▸ FM.in hE hh.sep (domME 13 a (Or.inl rfl) (by omega)) (by simp [rAm]))) (fun r H18 locs hp hF hS1 => ?_)
                obtain ⟨_, rfl, rfl, hm9⟩ := hp
                have hP : va_P G.1 zCl [] H18 := va_nil
                have hD : va_D (zA (FM G μ σ) H0) [] := va_nilD
                have hP : va_P G.1 zCl ([]) H18 := hP
                have hD : va_D (zA (FM G μ σ) H0) ([]) := hD
                have hS := hS1
                have hPo : PoM G s0 H0 μ σ (stEl σ a (w)) 0 H18 := HM.put hE hO hh hHb (by omega) hF hm9 (zAt.ext hRb hF (Ne.symm (z_noArr hE (ci := 7) (t := 0) rfl (hHb.el (j := a) (by omega)).1 rfl hRb))) (by omega) hkil.2.2.2.2.1
                refine lv_pop hx hb dX3_killer_118 rfl ?_
                refine lv_iload hx hb dX3_killer_119 (lv_at hl 0 rfl) ?_
                exact z_iret hC hrt hlk hQ hS ⟨zle (z := 120) rfl (by omega), zle (z := 2000) rfl (by omega)⟩ ⟨_, rfl, 0, stEl σ a (w), hPo, Or.inl ⟨rfl, ⟨a, b, c, w, ⟨by omega, by omega⟩, ⟨by omega, by omega⟩, hone, hkil, rfl, rfl⟩⟩⟩ dX3_killer_121
              · refine lv_aload_n hx hb dX3_killer_102 rfl (lv_at hl 3 rfl) ?_
                refine lv_iconst (v := iI 3) hx hb dX3_killer_103 rfl ?_
                have hHb := hH1
                refine z_go 58 888 (z_runV (As := [.int (iI 3)]) (rest := []) hC hml hl.1 (m_X3_no hE H16 (hO.ext (zS_F hS) hMo) μ σ 0 3 hHb) (lw_V q1520 q1522 qs29 q67 q1523) rfl nd_X3_no rfl (z_rv hC (ci := 2) rfl hHb.2.2.1.1 rfl) rfl (Nat.le_of_ble_eq_true rfl) ⟨Nat.le_of_ble_eq_true rfl, Nat.le_of_ble_eq_true rfl⟩ ⟨zfit (k := 0) (z := 120) rfl rfl (by omega), zfit (k := 0) (z := 2000) rfl rfl (by omega)⟩ dX3_killer_104) ⟨zad (k := 0) rfl (by omega), zad (k := 0) rfl (by omega)⟩ hS (fun z hz => Or.inl (hz ▸ FM.in hE hh.sep (domM0 0 (by omega)) (by simp [rAm]))) (fun r H19 locs hp hF hS1 => ?_)
                obtain ⟨_, rfl, rfl, hx9⟩ := hp
                have hP : va_P G.1 zCl [] H19 := va_nil
                have hD : va_D (zA (FM G μ σ) H0) [] := va_nilD
                have hP : va_P G.1 zCl ([]) H19 := hP
                have hD : va_D (zA (FM G μ σ) H0) ([]) := hD
                have hS := hS1
                have hH9 : HM G s0 μ σ ((3 : Nat) : Int) H19 := HM.thr hE hHb hF hx9
                exact z_iret hC hrt hlk hQ hS ⟨zle (z := 120) rfl (by omega), zle (z := 2000) rfl (by omega)⟩ ⟨_, rfl, 3, σ, PoM.same hH9, Or.inr ⟨by decide, rfl, by decide, Or.inr ⟨rfl, inE_n (by omega), inE_n (by omega), hone, by have h9 := (hfy.resolve_right (fun z => by obtain ⟨c, w, e, hk9, -⟩ := z; have := hk9.1; omega)).2; rw [hone] at h9; exact h9⟩⟩⟩ dX3_killer_107
            · refine lv_aload hx hb dX3_killer_66 (lv_at hl 1 rfl) ?_
              refine lv_iload hx hb dX3_killer_68 (lv_at hl 0 rfl) ?_
              refine z_aald hC (hP 0 _ rfl) (k := k) rfl (by omega) (q := (q10 + 1 + k)) rfl dX3_killer_70 ?_
              refine lv_iload hx hb dX3_killer_71 (lv_at hl 0 rfl) ?_
              refine lv_iconst (v := iI 1) hx hb dX3_killer_73 rfl ?_
              refine z_iastO hC hP hD hS (1 + k) (k := k) (zR_at (L := 1) rfl (by omega)) rfl (by omega) (ws' := [(q10, zII G (St_n σ (St_ea σ a)) (fun i => some (q10 + 1 + i)))] ++ (zRows G (St_n σ (St_ea σ a)) (St_n σ (St_ea σ a)) (fun i => q10 + 1 + i) (fun jj => if jj = k then va_up ((fun c => if c < k then eyeV c else fun _ => 0) k) k 1 else (fun c => if c < k then eyeV c else fun _ => 0) jj) ++ [])) (zR_set (L := 1) rfl (by omega)) dX3_killer_74 (fun H21 locs hP hD hS hZ1 hZ2 => ?_)
              have hH1 := hH1.ext hE (zF.one hZ1 hZ2) (fun a9 ha9 _ z => by have := hh.lt hE hO a9 ha9; omega)
              have hP : va_P G.1 zCl ([(q10, zII G (St_n σ (St_ea σ a)) (fun i => some (q10 + 1 + i)))] ++ (zRows G (St_n σ (St_ea σ a)) (St_n σ (St_ea σ a)) (fun i => q10 + 1 + i) (fun c => if c < (k + 1) then eyeV c else fun _ => 0) ++ [])) H21 := by rw [zRows_congr (F' := fun c => if c < (k + 1) then eyeV c else fun _ => 0) (fun i _ => rfl) (fun i hi => ways_step)] at hP; exact hP
              have hD : va_D (zA (FM G μ σ) H0) ([(q10, zII G (St_n σ (St_ea σ a)) (fun i => some (q10 + 1 + i)))] ++ (zRows G (St_n σ (St_ea σ a)) (St_n σ (St_ea σ a)) (fun i => q10 + 1 + i) (fun c => if c < (k + 1) then eyeV c else fun _ => 0) ++ [])) := by rw [zRows_congr (F' := fun c => if c < (k + 1) then eyeV c else fun _ => 0) (fun i _ => rfl) (fun i hi => ways_step)] at hD; exact hD
              refine z_iinc (z := ((k + 1 : Nat) : Int)) (lv' := [(5, .int (iI ((k + 1 : Nat) : Int))), (4, .ref q10), (3, .int (iI ((St_n σ (St_ea σ a) : Nat) : Int))), (0, .ref (μ (0, 0, 0))), (1, .int (iI ((a : Nat) : Int))), (2, .int (iI ((b : Nat) : Int)))]) hx hb dX3_killer_75 hl (k := 0) rfl (by omega) (by decide) rfl (fun ls hl => ?_)
              refine lv_goto (tgt := 60) hx hb dX3_killer_78 (by decide) ?_
              exact W.widen (by omega) (by omega) (ihlp12 (St_n σ (St_ea σ a) - (k + 1)) (by omega) (k + 1) rfl (by omega) _ _ _ hH1 hP hD hS hl)
        exact W.widen (by omega) (by omega) (lp12 _ 0 rfl (Nat.zero_le _) _ _ _ hH1 hP hD hS hl)
      · refine lv_aload_n hx hb dX3_killer_36 rfl (lv_at hl 0 rfl) ?_
        refine lv_iconst (v := iI 2) hx hb dX3_killer_37 rfl ?_
        have hHb := hH1
        refine z_go 0 0 (z_runV (As := [.int (iI 2)]) (rest := []) hC hml hl.1 (m_X3_no hE H7 (hO.ext (zS_F hS) hMo) μ σ 0 2 hHb) (lw_V q1520 q1522 qs29 q67 q1523) rfl nd_X3_no rfl (z_rv hC (ci := 2) rfl hHb.2.2.1.1 rfl) rfl (Nat.le_of_ble_eq_true rfl) ⟨Nat.le_of_ble_eq_true rfl, Nat.le_of_ble_eq_true rfl⟩ ⟨zfit (k := 0) (z := 120) rfl rfl (by omega), zfit (k := 0) (z := 2000) rfl rfl (by omega)⟩ dX3_killer_38) ⟨zad (k := 0) rfl (by omega), zad (k := 0) rfl (by omega)⟩ hS (fun z hz => Or.inl (hz ▸ FM.in hE hh.sep (domM0 0 (by omega)) (by simp [rAm]))) (fun r H22 locs hp hF hS1 => ?_)
        obtain ⟨_, rfl, rfl, hx9⟩ := hp
        have hP : va_P G.1 zCl [] H22 := va_nil
        have hD : va_D (zA (FM G μ σ) H0) [] := va_nilD
        have hP : va_P G.1 zCl ([]) H22 := hP
        have hD : va_D (zA (FM G μ σ) H0) ([]) := hD
        have hS := hS1
        have hH9 : HM G s0 μ σ ((2 : Nat) : Int) H22 := HM.thr hE hHb hF hx9
        exact z_iret hC hrt hlk hQ hS ⟨zle (z := 120) rfl (by omega), zle (z := 2000) rfl (by omega)⟩ ⟨_, rfl, 2, σ, PoM.same hH9, Or.inr ⟨by decide, rfl, by decide, Or.inl (Or.inr ⟨rfl, inE_n (by omega), inE_n (by omega), fun z9 => by have h9 := hfl2.2.mpr z9.1; omega⟩)⟩⟩ dX3_killer_41
    · refine lv_aload_n hx hb dX3_killer_21 rfl (lv_at hl 0 rfl) ?_
      refine lv_iconst (v := iI 1) hx hb dX3_killer_22 rfl ?_
      have hHb := hH1
      refine z_go 0 0 (z_runV (As := [.int (iI 1)]) (rest := []) hC hml hl.1 (m_X3_no hE H5 (hO.ext (zS_F hS) hMo) μ σ 0 1 hHb) (lw_V q1520 q1522 qs29 q67 q1523) rfl nd_X3_no rfl (z_rv hC (ci := 2) rfl hHb.2.2.1.1 rfl) rfl (Nat.le_of_ble_eq_true rfl) ⟨Nat.le_of_ble_eq_true rfl, Nat.le_of_ble_eq_true rfl⟩ ⟨zfit (k := 0) (z := 120) rfl rfl (by omega), zfit (k := 0) (z := 2000) rfl rfl (by omega)⟩ dX3_killer_23) ⟨zad (k := 0) rfl (by omega), zad (k := 0) rfl (by omega)⟩ hS (fun z hz => Or.inl (hz ▸ FM.in hE hh.sep (domM0 0 (by omega)) (by simp [rAm]))) (fun r H23 locs hp hF hS1 => ?_)
      obtain ⟨_, rfl, rfl, hx9⟩ := hp
      have hP : va_P G.1 zCl [] H23 := va_nil
      have hD : va_D (zA (FM G μ σ) H0) [] := va_nilD
      have hP : va_P G.1 zCl ([]) H23 := hP
      have hD : va_D (zA (FM G μ σ) H0) ([]) := hD
      have hS := hS1
      have hH9 : HM G s0 μ σ ((1 : Nat) : Int) H23 := HM.thr hE hHb hF hx9
      exact z_iret hC hrt hlk hQ hS ⟨zle (z := 120) rfl (by omega), zle (z := 2000) rfl (by omega)⟩ ⟨_, rfl, 1, σ, PoM.same hH9, Or.inr ⟨by decide, rfl, by decide, Or.inl (Or.inl ⟨rfl, fun z9 => by have h9 := hfl2.2.mpr (z9.2); omega⟩)⟩⟩ dX3_killer_26

abbrev rm_m_X3_elementNow_0 : Room := { frames := 3, cells := 0, slots := 0, locals := 64 }
set_option maxHeartbeats 4000000 in
theorem m_X3_elementNow_0 {l : Launch} {s0 : State} {G : zG} (hE : zE l s0 G) (H0 : Heap) (hO : zO s0 H0) (μ : Ro → Nat) (σ : St) (th : Int) (j : Nat) (hh : HM G s0 μ σ th H0) (hj : j < St_ne σ) : zM l s0 yX3_elementNow cX3_elementNow 3 (some FieldType.int) rm_m_X3_elementNow_0 [.ref (μ (0, 0, 0)), .int (iI ((j : Nat) : Int)), .int (iI 0)] H0 M0 (ri (fun y _ => y = oeV σ j 0)) := by
  refine z_met hE (by decide +kernel) (Nat.le_of_ble_eq_true rfl) ?_
  intro pp ee ss mm args below meth cd Q ls hC hml hrt hlk hnm hH hQ hS hl
  have hx := hC.x
  have hb := hC.b
  have hl : lv_has ls 3 [(0, .ref (μ (0, 0, 0))), (1, .int (iI ((j : Nat) : Int))), (2, .int (iI 0))] := hl
  have hP : va_P G.1 zCl [] H0 := va_nil
  have hD : va_D (zA M0 H0) [] := va_nilD
  have hH1 := hh
  obtain ⟨hp, hna, hal, hne9, hel9, hmr9⟩ := id hh.ok
  have hp7 : 0 < St_p σ ∧ St_p σ ≤ 7 := by rcases hp with h | h | h <;> rw [h] <;> decide
  have heaj := hh.ea hj
  have hnn := hh.n heaj
  refine lv_iload_n hx hb dX3_elementNow_0 rfl (lv_at hl 2 rfl) ?_
  refine lv_tableIn (off := 47) (tgt := 48) hx hb dX3_elementNow_1 (by decide) (by decide) rfl (by decide) ?_
  have hH1 : HM G s0 μ σ th H0 := hh.ext0 hE (zS_F hS)
  have hxx := hH1.2.2.1.1
  refine lv_aload_n hx hb dX3_elementNow_48 rfl (lv_at hl 0 rfl) ?_
  refine z_get hC (k := 4) rfl in_X3 hxx (by decide) q1500 (fun _ h => h) rfl dX3_elementNow_49 ?_
  refine lv_iload_n hx hb dX3_elementNow_52 rfl (lv_at hl 1 rfl) ?_
  have hH1 : HM G s0 μ σ th H0 := hh.ext0 hE (zS_F hS)
  obtain ⟨mde, hLe⟩ := id hH1.2.2.1.2.2
  refine z_go5 0 0 (z_runF (n := 1) (As := [.int (iI ((j : Nat) : Int))]) (rest := []) (ci := 8) hC hml hl.1 (m_J2_get hE H0 (hO.ext0 (zS_F hS)) (μ (3, 0, 0)) (St_ne σ) (fun j => μ (13, j, 0)) (μ (4, 0, 0)) mde j hLe hj) q375 q1588 q1591 q373 q65 q1590 q1589 q1593 q1592 q1528 ⟨by decide +kernel, by decide +kernel, by decide +kernel⟩ rfl rfl rfl (z_rv hC (ci := 8) rfl hLe.1 rfl) rfl (Nat.le_of_ble_eq_true rfl) ⟨Nat.le_of_ble_eq_true rfl, Nat.le_of_ble_eq_true rfl⟩ ⟨zfit (k := 0) (z := 0) rfl rfl (by omega), zfit (k := 0) (z := 0) rfl rfl (by omega)⟩ dX3_elementNow_53) ⟨zad (k := 0) rfl (by omega), zad (k := 0) rfl (by omega)⟩ hS (fun _ z => z.elim) (fun r H1 locs hp hF hS1 => ?_)
  obtain ⟨_, rfl, rfl⟩ := hp
  have hP := zpk hP hF
  have hP : va_P G.1 zCl ([]) H1 := hP
  have hD : va_D (zA M0 H0) ([]) := hD
  have hS := hS1
  have hH1 : HM G s0 μ σ th H1 := hh.ext0 hE (zS_F hS)
  have hEj := hH1.el (j := j) hj
  have hvj := hH1.row (j := j) hj
  have heaj := hH1.ea (j := j) hj
  have hnnj := hH1.n (k := St_ea σ j) heaj
  refine z_cast hC (ci := 7) rfl hEj.1 rfl q1598 dX3_elementNow_58 ?_
  refine z_get hC (k := 0) rfl in_X8 hEj.1 (by decide) q1638 (fun _ h => h) rfl dX3_elementNow_61 ?_
  exact z_iret hC hrt hlk hQ hS ⟨zle (z := 0) rfl (by omega), zle (z := 0) rfl (by omega)⟩ ⟨_, rfl, rfl⟩ dX3_elementNow_64

abbrev rm_m_X3_elementNow_1 : Room := { frames := 4, cells := 0, slots := 0, locals := 85 }
set_option maxHeartbeats 4000000 in
theorem m_X3_elementNow_1 {l : Launch} {s0 : State} {G : zG} (hE : zE l s0 G) (H0 : Heap) (hO : zO s0 H0) (μ : Ro → Nat) (σ : St) (th : Int) (j : Nat) (hh : HM G s0 μ σ th H0) (hj : j < St_ne σ) : zM l s0 yX3_elementNow cX3_elementNow 3 (some FieldType.int) rm_m_X3_elementNow_1 [.ref (μ (0, 0, 0)), .int (iI ((j : Nat) : Int)), .int (iI 1)] H0 M0 (ri (fun y _ => y = oeV σ j 1)) := by
  refine z_met hE (by decide +kernel) (Nat.le_of_ble_eq_true rfl) ?_
  intro pp ee ss mm args below meth cd Q ls hC hml hrt hlk hnm hH hQ hS hl
  have hx := hC.x
  have hb := hC.b
  have hl : lv_has ls 3 [(0, .ref (μ (0, 0, 0))), (1, .int (iI ((j : Nat) : Int))), (2, .int (iI 1))] := hl
  have hP : va_P G.1 zCl [] H0 := va_nil
  have hD : va_D (zA M0 H0) [] := va_nilD
  have hH1 := hh
  obtain ⟨hp, hna, hal, hne9, hel9, hmr9⟩ := id hh.ok
  have hp7 : 0 < St_p σ ∧ St_p σ ≤ 7 := by rcases hp with h | h | h <;> rw [h] <;> decide
  have heaj := hh.ea hj
  have hnn := hh.n heaj
  refine lv_iload_n hx hb dX3_elementNow_0 rfl (lv_at hl 2 rfl) ?_
  refine lv_tableIn (off := 64) (tgt := 65) hx hb dX3_elementNow_1 (by decide) (by decide) rfl (by decide) ?_
  refine lv_aload_n hx hb dX3_elementNow_65 rfl (lv_at hl 0 rfl) ?_
  refine lv_iload_n hx hb dX3_elementNow_66 rfl (lv_at hl 1 rfl) ?_
  have hH1 : HM G s0 μ σ th H0 := hh.ext0 hE (zS_F hS)
  refine z_go 0 0 (z_runV (As := [.int (iI ((j : Nat) : Int))]) (rest := []) hC hml hl.1 (m_X3_row hE H0 (hO.ext0 (zS_F hS)) μ σ th j hH1 hj) (lw_V q1654 q1656 qs36 q67 q1657) rfl nd_X3_row rfl (z_rv hC (ci := 2) rfl hH1.2.2.1.1 rfl) rfl (Nat.le_of_ble_eq_true rfl) ⟨Nat.le_of_ble_eq_true rfl, Nat.le_of_ble_eq_true rfl⟩ ⟨zfit (k := 0) (z := 0) rfl rfl (by omega), zfit (k := 0) (z := 0) rfl rfl (by omega)⟩ dX3_elementNow_67) ⟨zad (k := 0) rfl (by omega), zad (k := 0) rfl (by omega)⟩ hS (fun _ z => z.elim) (fun r H1 locs hp hF hS1 => ?_)
  obtain ⟨_, rfl, rfl⟩ := hp
  have hP := zpk hP hF
  have hP : va_P G.1 zCl ([]) H1 := hP
  have hD : va_D (zA M0 H0) ([]) := hD
  have hS := hS1
  have hH1 : HM G s0 μ σ th H1 := hh.ext0 hE (zS_F hS)
  have hRj := (hH1.el (j := j) (by omega)).2
  have hVj := hH1.row (j := j) (by omega)
  refine z_go 0 0 (z_runS (As := [.ref (μ (14, j, 0))]) (rest := []) hC hml hl.1 (m_X3_size hE H1 (hO.ext0 (zS_F hS)) (μ (14, j, 0)) (St_n σ (St_ea σ j)) (St_ev σ j) hRj (fun j9 hj9 => by have := hVj j9 hj9; omega) hnn) (lw_S q1675 q1676 q67 q1677) nd_X3_size rfl rfl (Nat.le_of_ble_eq_true rfl) ⟨Nat.le_of_ble_eq_true rfl, Nat.le_of_ble_eq_true rfl⟩ ⟨zfit (k := 0) (z := 0) rfl rfl (by omega), zfit (k := 0) (z := 0) rfl rfl (by omega)⟩ dX3_elementNow_70) ⟨zad (k := 0) rfl (by omega), zad (k := 0) rfl (by omega)⟩ hS (fun _ z => z.elim) (fun r H2 locs hp hF hS1 => ?_)
  obtain ⟨_, rfl, rfl⟩ := hp
  have hP := zpk hP hF
  have hP : va_P G.1 zCl ([]) H2 := hP
  have hD : va_D (zA M0 H0) ([]) := hD
  have hS := hS1
  exact z_iret hC hrt hlk hQ hS ⟨zle (z := 0) rfl (by omega), zle (z := 0) rfl (by omega)⟩ ⟨_, rfl, rfl⟩ dX3_elementNow_73

abbrev rm_m_X3_elementNow_2 : Room := { frames := 5, cells := 2, slots := 32, locals := 106 }
set_option maxHeartbeats 4000000 in
theorem m_X3_elementNow_2 {l : Launch} {s0 : State} {G : zG} (hE : zE l s0 G) (H0 : Heap) (hO : zO s0 H0) (μ : Ro → Nat) (σ : St) (th : Int) (j : Nat) (hh : HM G s0 μ σ th H0) (hj : j < St_ne σ) : zM l s0 yX3_elementNow cX3_elementNow 3 (some FieldType.int) rm_m_X3_elementNow_2 [.ref (μ (0, 0, 0)), .int (iI ((j : Nat) : Int)), .int (iI 2)] H0 M0 (ri (fun y _ => y = oeV σ j 2)) := by
  refine z_met hE (by decide +kernel) (Nat.le_of_ble_eq_true rfl) ?_
  intro pp ee ss mm args below meth cd Q ls hC hml hrt hlk hnm hH hQ hS hl
  have hx := hC.x
  have hb := hC.b
  have hl : lv_has ls 3 [(0, .ref (μ (0, 0, 0))), (1, .int (iI ((j : Nat) : Int))), (2, .int (iI 2))] := hl
  have hP : va_P G.1 zCl [] H0 := va_nil
  have hD : va_D (zA M0 H0) [] := va_nilD
  have hH1 := hh
  obtain ⟨hp, hna, hal, hne9, hel9, hmr9⟩ := id hh.ok
  have hp7 : 0 < St_p σ ∧ St_p σ ≤ 7 := by rcases hp with h | h | h <;> rw [h] <;> decide
  have heaj := hh.ea hj
  have hnn := hh.n heaj
  refine lv_iload_n hx hb dX3_elementNow_0 rfl (lv_at hl 2 rfl) ?_
  refine lv_tableIn (off := 73) (tgt := 74) hx hb dX3_elementNow_1 (by decide) (by decide) rfl (by decide) ?_
  refine lv_aload_n hx hb dX3_elementNow_74 rfl (lv_at hl 0 rfl) ?_
  refine lv_iload_n hx hb dX3_elementNow_75 rfl (lv_at hl 1 rfl) ?_
  have hH1 : HM G s0 μ σ th H0 := hh.ext0 hE (zS_F hS)
  refine z_go 2 32 (z_runV (As := [.int (iI ((j : Nat) : Int))]) (rest := []) hC hml hl.1 (m_X3_normOf hE H0 (hO.ext0 (zS_F hS)) μ σ th j hH1 hj) (lw_V q1815 q1817 qs49 q67 q1818) rfl nd_X3_normOf rfl (z_rv hC (ci := 2) rfl hH1.2.2.1.1 rfl) rfl (Nat.le_of_ble_eq_true rfl) ⟨Nat.le_of_ble_eq_true rfl, Nat.le_of_ble_eq_true rfl⟩ ⟨zfit (k := 2) (z := 2) rfl rfl (by omega), zfit (k := 32) (z := 32) rfl rfl (by omega)⟩ dX3_elementNow_76) ⟨zad (k := 2) rfl (by omega), zad (k := 32) rfl (by omega)⟩ hS (fun _ z => z.elim) (fun r H1 locs hp hF hS1 => ?_)
  obtain ⟨_, rfl, rfl⟩ := hp
  have hP := zpk hP hF
  have hP : va_P G.1 zCl ([]) H1 := hP
  have hD : va_D (zA M0 H0) ([]) := hD
  have hS := hS1
  exact z_iret hC hrt hlk hQ hS ⟨zle (z := 2) rfl (by omega), zle (z := 32) rfl (by omega)⟩ ⟨_, rfl, rfl⟩ dX3_elementNow_79

abbrev rm_m_X3_elementNow_3 : Room := { frames := 4, cells := 0, slots := 0, locals := 85 }
set_option maxHeartbeats 4000000 in
theorem m_X3_elementNow_3 {l : Launch} {s0 : State} {G : zG} (hE : zE l s0 G) (H0 : Heap) (hO : zO s0 H0) (μ : Ro → Nat) (σ : St) (th : Int) (j : Nat) (hh : HM G s0 μ σ th H0) (hj : j < St_ne σ) : zM l s0 yX3_elementNow cX3_elementNow 3 (some FieldType.int) rm_m_X3_elementNow_3 [.ref (μ (0, 0, 0)), .int (iI ((j : Nat) : Int)), .int (iI 3)] H0 M0 (ri (fun y _ => y = oeV σ j 3)) := by
  refine z_met hE (by decide +kernel) (Nat.le_of_ble_eq_true rfl) ?_
  intro pp ee ss mm args below meth cd Q ls hC hml hrt hlk hnm hH hQ hS hl
  have hx := hC.x
  have hb := hC.b
  have hl : lv_has ls 3 [(0, .ref (μ (0, 0, 0))), (1, .int (iI ((j : Nat) : Int))), (2, .int (iI 3))] := hl
  have hP : va_P G.1 zCl [] H0 := va_nil
  have hD : va_D (zA M0 H0) [] := va_nilD
  have hH1 := hh
  obtain ⟨hp, hna, hal, hne9, hel9, hmr9⟩ := id hh.ok
  have hp7 : 0 < St_p σ ∧ St_p σ ≤ 7 := by rcases hp with h | h | h <;> rw [h] <;> decide
  have heaj := hh.ea hj
  have hnn := hh.n heaj
  refine lv_iload_n hx hb dX3_elementNow_0 rfl (lv_at hl 2 rfl) ?_
  refine lv_tableIn (off := 79) (tgt := 80) hx hb dX3_elementNow_1 (by decide) (by decide) rfl (by decide) ?_
  refine lv_aload_n hx hb dX3_elementNow_80 rfl (lv_at hl 0 rfl) ?_
  refine lv_iload_n hx hb dX3_elementNow_81 rfl (lv_at hl 1 rfl) ?_
  have hH1 : HM G s0 μ σ th H0 := hh.ext0 hE (zS_F hS)
  refine z_go 0 0 (z_runV (As := [.int (iI ((j : Nat) : Int))]) (rest := []) hC hml hl.1 (m_X3_row hE H0 (hO.ext0 (zS_F hS)) μ σ th j hH1 hj) (lw_V q1654 q1656 qs36 q67 q1657) rfl nd_X3_row rfl (z_rv hC (ci := 2) rfl hH1.2.2.1.1 rfl) rfl (Nat.le_of_ble_eq_true rfl) ⟨Nat.le_of_ble_eq_true rfl, Nat.le_of_ble_eq_true rfl⟩ ⟨zfit (k := 0) (z := 0) rfl rfl (by omega), zfit (k := 0) (z := 0) rfl rfl (by omega)⟩ dX3_elementNow_82) ⟨zad (k := 0) rfl (by omega), zad (k := 0) rfl (by omega)⟩ hS (fun _ z => z.elim) (fun r H1 locs hp hF hS1 => ?_)
  obtain ⟨_, rfl, rfl⟩ := hp
  have hP := zpk hP hF
  have hP : va_P G.1 zCl ([]) H1 := hP
  have hD : va_D (zA M0 H0) ([]) := hD
  have hS := hS1
  have hH1 : HM G s0 μ σ th H1 := hh.ext0 hE (zS_F hS)
  have hRj := (hH1.el (j := j) (by omega)).2
  have hVj := hH1.row (j := j) (by omega)
  refine z_go 0 0 (z_runS (As := [.ref (μ (14, j, 0))]) (rest := []) hC hml hl.1 (m_X3_isPlain hE H1 (hO.ext0 (zS_F hS)) (μ (14, j, 0)) (St_n σ (St_ea σ j)) (St_ev σ j) hRj (fun j9 hj9 => by have := hVj j9 hj9; omega) hnn) (lw_S q1723 q1724 q67 q1725) nd_X3_isPlain rfl rfl (Nat.le_of_ble_eq_true rfl) ⟨Nat.le_of_ble_eq_true rfl, Nat.le_of_ble_eq_true rfl⟩ ⟨zfit (k := 0) (z := 0) rfl rfl (by omega), zfit (k := 0) (z := 0) rfl rfl (by omega)⟩ dX3_elementNow_85) ⟨zad (k := 0) rfl (by omega), zad (k := 0) rfl (by omega)⟩ hS (fun _ z => z.elim) (fun r H2 locs hp hF hS1 => ?_)
  obtain ⟨_, rfl, rfl⟩ := hp
  have hP := zpk hP hF
  have hP : va_P G.1 zCl ([]) H2 := hP
  have hD : va_D (zA M0 H0) ([]) := hD
  have hS := hS1
  refine z_zeq (tgt := 95) hx hb dX3_elementNow_88 (by decide) (by unfold b2i; split <;> omega) (fun cp => ?_) (fun cp => ?_)
  · refine lv_iconst (v := iI 0) hx hb dX3_elementNow_95 rfl ?_
    exact z_iret hC hrt hlk hQ hS ⟨zle (z := 0) rfl (by omega), zle (z := 0) rfl (by omega)⟩ ⟨_, rfl, b2i_f (b2i_z cp)⟩ dX3_elementNow_96
  · refine lv_iconst (v := iI 1) hx hb dX3_elementNow_91 rfl ?_
    refine lv_goto (tgt := 96) hx hb dX3_elementNow_92 (by decide) ?_
    exact z_iret hC hrt hlk hQ hS ⟨zle (z := 0) rfl (by omega), zle (z := 0) rfl (by omega)⟩ ⟨_, rfl, b2i_t (b2i_nz cp)⟩ dX3_elementNow_96

abbrev rm_m_X3_elementNow_4 : Room := { frames := 5, cells := 70, slots := 1100, locals := 108 }
set_option maxHeartbeats 4000000 in
theorem m_X3_elementNow_4 {l : Launch} {s0 : State} {G : zG} (hE : zE l s0 G) (H0 : Heap) (hO : zO s0 H0) (μ : Ro → Nat) (σ : St) (th : Int) (j : Nat) (hh : HM G s0 μ σ th H0) (hj : j < St_ne σ) : zM l s0 yX3_elementNow cX3_elementNow 3 (some FieldType.int) rm_m_X3_elementNow_4 [.ref (μ (0, 0, 0)), .int (iI ((j : Nat) : Int)), .int (iI 4)] H0 M0 (ri (fun y _ => y = oeV σ j 4)) := by
  refine z_met hE (by decide +kernel) (Nat.le_of_ble_eq_true rfl) ?_
  intro pp ee ss mm args below meth cd Q ls hC hml hrt hlk hnm hH hQ hS hl
  have hx := hC.x
  have hb := hC.b
  have hl : lv_has ls 3 [(0, .ref (μ (0, 0, 0))), (1, .int (iI ((j : Nat) : Int))), (2, .int (iI 4))] := hl
  have hP : va_P G.1 zCl [] H0 := va_nil
  have hD : va_D (zA M0 H0) [] := va_nilD
  have hH1 := hh
  obtain ⟨hp, hna, hal, hne9, hel9, hmr9⟩ := id hh.ok
  have hp7 : 0 < St_p σ ∧ St_p σ ≤ 7 := by rcases hp with h | h | h <;> rw [h] <;> decide
  have heaj := hh.ea hj
  have hnn := hh.n heaj
  refine lv_iload_n hx hb dX3_elementNow_0 rfl (lv_at hl 2 rfl) ?_
  refine lv_tableIn (off := 96) (tgt := 97) hx hb dX3_elementNow_1 (by decide) (by decide) rfl (by decide) ?_
  refine lv_aload_n hx hb dX3_elementNow_97 rfl (lv_at hl 0 rfl) ?_
  refine lv_iload_n hx hb dX3_elementNow_98 rfl (lv_at hl 1 rfl) ?_
  have hH1 : HM G s0 μ σ th H0 := hh.ext0 hE (zS_F hS)
  refine z_go 70 1100 (z_runV (As := [.int (iI ((j : Nat) : Int))]) (rest := []) hC hml hl.1 (m_X3_orderOf hE H0 (hO.ext0 (zS_F hS)) μ σ th j hH1 hj) (lw_V q1819 q1821 qs50 q67 q1822) rfl nd_X3_orderOf rfl (z_rv hC (ci := 2) rfl hH1.2.2.1.1 rfl) rfl (Nat.le_of_ble_eq_true rfl) ⟨Nat.le_of_ble_eq_true rfl, Nat.le_of_ble_eq_true rfl⟩ ⟨zfit (k := 70) (z := 70) rfl rfl (by omega), zfit (k := 1100) (z := 1100) rfl rfl (by omega)⟩ dX3_elementNow_99) ⟨zad (k := 70) rfl (by omega), zad (k := 1100) rfl (by omega)⟩ hS (fun _ z => z.elim) (fun r H1 locs hp hF hS1 => ?_)
  obtain ⟨_, rfl, rfl⟩ := hp
  have hP := zpk hP hF
  have hP : va_P G.1 zCl ([]) H1 := hP
  have hD : va_D (zA M0 H0) ([]) := hD
  have hS := hS1
  exact z_iret hC hrt hlk hQ hS ⟨zle (z := 70) rfl (by omega), zle (z := 1100) rfl (by omega)⟩ ⟨_, rfl, rfl⟩ dX3_elementNow_102

abbrev rm_m_X3_elementNow_5 : Room := { frames := 5, cells := 70, slots := 1100, locals := 108 }
set_option maxHeartbeats 4000000 in
theorem m_X3_elementNow_5 {l : Launch} {s0 : State} {G : zG} (hE : zE l s0 G) (H0 : Heap) (hO : zO s0 H0) (μ : Ro → Nat) (σ : St) (th : Int) (j : Nat) (hh : HM G s0 μ σ th H0) (hj : j < St_ne σ) : zM l s0 yX3_elementNow cX3_elementNow 3 (some FieldType.int) rm_m_X3_elementNow_5 [.ref (μ (0, 0, 0)), .int (iI ((j : Nat) : Int)), .int (iI 5)] H0 M0 (ri (fun y _ => y = oeV σ j 5)) := by
  refine z_met hE (by decide +kernel) (Nat.le_of_ble_eq_true rfl) ?_
  intro pp ee ss mm args below meth cd Q ls hC hml hrt hlk hnm hH hQ hS hl
  have hx := hC.x
  have hb := hC.b
  have hl : lv_has ls 3 [(0, .ref (μ (0, 0, 0))), (1, .int (iI ((j : Nat) : Int))), (2, .int (iI 5))] := hl
  have hP : va_P G.1 zCl [] H0 := va_nil
  have hD : va_D (zA M0 H0) [] := va_nilD
  have hH1 := hh
  obtain ⟨hp, hna, hal, hne9, hel9, hmr9⟩ := id hh.ok
  have hp7 : 0 < St_p σ ∧ St_p σ ≤ 7 := by rcases hp with h | h | h <;> rw [h] <;> decide
  have heaj := hh.ea hj
  have hnn := hh.n heaj
  refine lv_iload_n hx hb dX3_elementNow_0 rfl (lv_at hl 2 rfl) ?_
  refine lv_tableIn (off := 102) (tgt := 103) hx hb dX3_elementNow_1 (by decide) (by decide) rfl (by decide) ?_
  refine lv_aload_n hx hb dX3_elementNow_103 rfl (lv_at hl 0 rfl) ?_
  refine lv_iload_n hx hb dX3_elementNow_104 rfl (lv_at hl 1 rfl) ?_
  have hH1 : HM G s0 μ σ th H0 := hh.ext0 hE (zS_F hS)
  refine z_go 70 1100 (z_runV (As := [.int (iI ((j : Nat) : Int))]) (rest := []) hC hml hl.1 (m_X3_nilOf hE H0 (hO.ext0 (zS_F hS)) μ σ th j hH1 hj) (lw_V q1734 q1736 qs42 q67 q1737) rfl nd_X3_nilOf rfl (z_rv hC (ci := 2) rfl hH1.2.2.1.1 rfl) rfl (Nat.le_of_ble_eq_true rfl) ⟨Nat.le_of_ble_eq_true rfl, Nat.le_of_ble_eq_true rfl⟩ ⟨zfit (k := 70) (z := 70) rfl rfl (by omega), zfit (k := 1100) (z := 1100) rfl rfl (by omega)⟩ dX3_elementNow_105) ⟨zad (k := 70) rfl (by omega), zad (k := 1100) rfl (by omega)⟩ hS (fun _ z => z.elim) (fun r H1 locs hp hF hS1 => ?_)
  obtain ⟨_, rfl, rfl⟩ := hp
  have hP := zpk hP hF
  have hP : va_P G.1 zCl ([]) H1 := hP
  have hD : va_D (zA M0 H0) ([]) := hD
  have hS := hS1
  exact z_iret hC hrt hlk hQ hS ⟨zle (z := 70) rfl (by omega), zle (z := 1100) rfl (by omega)⟩ ⟨_, rfl, rfl⟩ dX3_elementNow_108

abbrev rm_m_X3_elementNow_6 : Room := { frames := 4, cells := 1, slots := 16, locals := 85 }
set_option maxHeartbeats 4000000 in
theorem m_X3_elementNow_6 {l : Launch} {s0 : State} {G : zG} (hE : zE l s0 G) (H0 : Heap) (hO : zO s0 H0) (μ : Ro → Nat) (σ : St) (th : Int) (j : Nat) (hh : HM G s0 μ σ th H0) (hj : j < St_ne σ) : zM l s0 yX3_elementNow cX3_elementNow 3 (some FieldType.int) rm_m_X3_elementNow_6 [.ref (μ (0, 0, 0)), .int (iI ((j : Nat) : Int)), .int (iI 6)] H0 M0 (ri (fun y _ => y = oeV σ j 6)) := by
  refine z_met hE (by decide +kernel) (Nat.le_of_ble_eq_true rfl) ?_
  intro pp ee ss mm args below meth cd Q ls hC hml hrt hlk hnm hH hQ hS hl
  have hx := hC.x
  have hb := hC.b
  have hl : lv_has ls 3 [(0, .ref (μ (0, 0, 0))), (1, .int (iI ((j : Nat) : Int))), (2, .int (iI 6))] := hl
  have hP : va_P G.1 zCl [] H0 := va_nil
  have hD : va_D (zA M0 H0) [] := va_nilD
  have hH1 := hh
  obtain ⟨hp, hna, hal, hne9, hel9, hmr9⟩ := id hh.ok
  have hp7 : 0 < St_p σ ∧ St_p σ ≤ 7 := by rcases hp with h | h | h <;> rw [h] <;> decide
  have heaj := hh.ea hj
  have hnn := hh.n heaj
  refine lv_iload_n hx hb dX3_elementNow_0 rfl (lv_at hl 2 rfl) ?_
  refine lv_tableIn (off := 108) (tgt := 109) hx hb dX3_elementNow_1 (by decide) (by decide) rfl (by decide) ?_
  refine lv_aload_n hx hb dX3_elementNow_109 rfl (lv_at hl 0 rfl) ?_
  refine lv_iload_n hx hb dX3_elementNow_110 rfl (lv_at hl 1 rfl) ?_
  have hH1 : HM G s0 μ σ th H0 := hh.ext0 hE (zS_F hS)
  refine z_go 0 0 (z_runV (As := [.int (iI ((j : Nat) : Int))]) (rest := []) hC hml hl.1 (m_X3_home hE H0 (hO.ext0 (zS_F hS)) μ σ th j hH1 hj) (lw_V q1682 q1684 qs40 q67 q1685) rfl nd_X3_home rfl (z_rv hC (ci := 2) rfl hH1.2.2.1.1 rfl) rfl (Nat.le_of_ble_eq_true rfl) ⟨Nat.le_of_ble_eq_true rfl, Nat.le_of_ble_eq_true rfl⟩ ⟨zfit (k := 0) (z := 1) rfl rfl (by omega), zfit (k := 0) (z := 16) rfl rfl (by omega)⟩ dX3_elementNow_111) ⟨zad (k := 0) rfl (by omega), zad (k := 0) rfl (by omega)⟩ hS (fun _ z => z.elim) (fun r H1 locs hp hF hS1 => ?_)
  obtain ⟨_, rfl, rfl⟩ := hp
  have hP := zpk hP hF
  have hP : va_P G.1 zCl ([]) H1 := hP
  have hD : va_D (zA M0 H0) ([]) := hD
  have hS := hS1
  refine lv_aload_n hx hb dX3_elementNow_114 rfl (lv_at hl 0 rfl) ?_
  refine lv_iload_n hx hb dX3_elementNow_115 rfl (lv_at hl 1 rfl) ?_
  have hH1 : HM G s0 μ σ th H1 := hh.ext0 hE (zS_F hS)
  refine z_go 0 0 (z_runV (As := [.int (iI ((j : Nat) : Int))]) (rest := [.ref (μ (6, St_ea σ j, 0))]) hC hml hl.1 (m_X3_row hE H1 (hO.ext0 (zS_F hS)) μ σ th j hH1 hj) (lw_V q1654 q1656 qs36 q67 q1657) rfl nd_X3_row rfl (z_rv hC (ci := 2) rfl hH1.2.2.1.1 rfl) rfl (Nat.le_of_ble_eq_true rfl) ⟨Nat.le_of_ble_eq_true rfl, Nat.le_of_ble_eq_true rfl⟩ ⟨zfit (k := 0) (z := 1) rfl rfl (by omega), zfit (k := 0) (z := 16) rfl rfl (by omega)⟩ dX3_elementNow_116) ⟨zad (k := 0) rfl (by omega), zad (k := 0) rfl (by omega)⟩ hS (fun _ z => z.elim) (fun r H2 locs hp hF hS1 => ?_)
  obtain ⟨_, rfl, rfl⟩ := hp
  have hP := zpk hP hF
  have hP : va_P G.1 zCl ([]) H2 := hP
  have hD : va_D (zA M0 H0) ([]) := hD
  have hS := hS1
  have hH1 : HM G s0 μ σ th H2 := hh.ext0 hE (zS_F hS)
  have hRj := (hH1.el (j := j) (by omega)).2
  have hVj := hH1.row (j := j) (by omega)
  refine lv_aload_n hx hb dX3_elementNow_119 rfl (lv_at hl 0 rfl) ?_
  refine lv_iload_n hx hb dX3_elementNow_120 rfl (lv_at hl 1 rfl) ?_
  have hH1 : HM G s0 μ σ th H2 := hh.ext0 hE (zS_F hS)
  refine z_go 0 0 (z_runV (As := [.int (iI ((j : Nat) : Int))]) (rest := [.ref (μ (14, j, 0)), .ref (μ (6, St_ea σ j, 0))]) hC hml hl.1 (m_X3_row hE H2 (hO.ext0 (zS_F hS)) μ σ th j hH1 hj) (lw_V q1654 q1656 qs36 q67 q1657) rfl nd_X3_row rfl (z_rv hC (ci := 2) rfl hH1.2.2.1.1 rfl) rfl (Nat.le_of_ble_eq_true rfl) ⟨Nat.le_of_ble_eq_true rfl, Nat.le_of_ble_eq_true rfl⟩ ⟨zfit (k := 0) (z := 1) rfl rfl (by omega), zfit (k := 0) (z := 16) rfl rfl (by omega)⟩ dX3_elementNow_121) ⟨zad (k := 0) rfl (by omega), zad (k := 0) rfl (by omega)⟩ hS (fun _ z => z.elim) (fun r H3 locs hp hF hS1 => ?_)
  obtain ⟨_, rfl, rfl⟩ := hp
  have hP := zpk hP hF
  have hP : va_P G.1 zCl ([]) H3 := hP
  have hD : va_D (zA M0 H0) ([]) := hD
  have hS := hS1
  have hH1 : HM G s0 μ σ th H3 := hh.ext0 hE (zS_F hS)
  have hRj := (hH1.el (j := j) (by omega)).2
  have hVj := hH1.row (j := j) (by omega)
  have hH1 : HM G s0 μ σ th H3 := hh.ext0 hE (zS_F hS)
  have hsz9 : H0.size ≤ H3.size := hS.1
  have hUSt_eaσj := hH1.al (k := St_ea σ j) heaj
  refine z_go 1 16 (z_runV (As := [.ref (μ (14, j, 0)), .ref (μ (14, j, 0))]) (rest := []) hC hml hl.1 (m_X6_times hE H3 (hO.ext0 (zS_F hS)) μ σ th (St_ea σ j) (μ (14, j, 0)) (St_ev σ j) (μ (14, j, 0)) (St_ev σ j)  hH1 heaj hRj hVj hRj hVj ) (lw_V q1686 q1687 q1688 q82 q1689) rfl nd_X6_times rfl (z_rv hC (ci := 5) rfl hUSt_eaσj.1 rfl) rfl (Nat.le_of_ble_eq_true rfl) ⟨Nat.le_of_ble_eq_true rfl, Nat.le_of_ble_eq_true rfl⟩ ⟨zfit (k := 1) (z := 1) rfl rfl (by omega), zfit (k := 16) (z := 16) rfl rfl (by omega)⟩ dX3_elementNow_124) ⟨zad (k := 1) rfl (by omega), zad (k := 16) rfl (by omega)⟩ hS (fun _ z => z.elim) (fun r H5 locs hp hF hS1 => ?_)
  obtain ⟨qr4, rfl, hN⟩ := hp
  obtain ⟨hP, hD⟩ := zjn hP hD hS.1 hF hN
  have hP : va_P G.1 zCl ([(qr4, zI G (St_n σ (St_ea σ j)) (tmV (St_p σ) (St_n σ (St_ea σ j)) (St_sg σ (St_ea σ j)) (St_ev σ j) (St_ev σ j)))]) H5 := hP
  have hD : va_D (zA M0 H0) ([(qr4, zI G (St_n σ (St_ea σ j)) (tmV (St_p σ) (St_n σ (St_ea σ j)) (St_sg σ (St_ea σ j)) (St_ev σ j) (St_ev σ j)))]) := hD
  have hS := hS1
  refine lv_aload_n hx hb dX3_elementNow_127 rfl (lv_at hl 0 rfl) ?_
  refine lv_iload_n hx hb dX3_elementNow_128 rfl (lv_at hl 1 rfl) ?_
  have hH1 : HM G s0 μ σ th H5 := hh.ext0 hE (zS_F hS)
  refine z_go 1 16 (z_runV (As := [.int (iI ((j : Nat) : Int))]) (rest := [.ref qr4]) hC hml hl.1 (m_X3_row hE H5 (hO.ext0 (zS_F hS)) μ σ th j hH1 hj) (lw_V q1654 q1656 qs36 q67 q1657) rfl nd_X3_row rfl (z_rv hC (ci := 2) rfl hH1.2.2.1.1 rfl) rfl (Nat.le_of_ble_eq_true rfl) ⟨Nat.le_of_ble_eq_true rfl, Nat.le_of_ble_eq_true rfl⟩ ⟨zfit (k := 0) (z := 1) rfl rfl (by omega), zfit (k := 0) (z := 16) rfl rfl (by omega)⟩ dX3_elementNow_129) ⟨zad (k := 0) rfl (by omega), zad (k := 0) rfl (by omega)⟩ hS (fun _ z => z.elim) (fun r H6 locs hp hF hS1 => ?_)
  obtain ⟨_, rfl, rfl⟩ := hp
  have hP := zpk hP hF
  have hP : va_P G.1 zCl ([(qr4, zI G (St_n σ (St_ea σ j)) (tmV (St_p σ) (St_n σ (St_ea σ j)) (St_sg σ (St_ea σ j)) (St_ev σ j) (St_ev σ j)))]) H6 := hP
  have hD : va_D (zA M0 H0) ([(qr4, zI G (St_n σ (St_ea σ j)) (tmV (St_p σ) (St_n σ (St_ea σ j)) (St_sg σ (St_ea σ j)) (St_ev σ j) (St_ev σ j)))]) := hD
  have hS := hS1
  have hH1 : HM G s0 μ σ th H6 := hh.ext0 hE (zS_F hS)
  have hRj := (hH1.el (j := j) (by omega)).2
  have hVj := hH1.row (j := j) (by omega)
  have hT := tmV_ok hp (St_n σ (St_ea σ j)) (St_sg σ (St_ea σ j)) (St_ev σ j) (St_ev σ j)
  refine z_go 1 16 (z_runS (As := [.ref qr4, .ref (μ (14, j, 0))]) (rest := []) hC hml hl.1 (m_X3_isSame hE H6 (hO.ext0 (zS_F hS)) qr4 (μ (14, j, 0)) (St_n σ (St_ea σ j)) (tmV (St_p σ) (St_n σ (St_ea σ j)) (St_sg σ (St_ea σ j)) (St_ev σ j) (St_ev σ j)) (St_ev σ j) (hP 0 _ rfl) hRj (fun j9 hj9 => by have := hT j9 hj9; omega) (fun j9 hj9 => by have := hVj j9 hj9; omega) hnn) (lw_S q1823 q1824 q67 q1825) nd_X3_isSame rfl rfl (Nat.le_of_ble_eq_true rfl) ⟨Nat.le_of_ble_eq_true rfl, Nat.le_of_ble_eq_true rfl⟩ ⟨zfit (k := 0) (z := 1) rfl rfl (by omega), zfit (k := 0) (z := 16) rfl rfl (by omega)⟩ dX3_elementNow_132) ⟨zad (k := 0) rfl (by omega), zad (k := 0) rfl (by omega)⟩ hS (fun _ z => z.elim) (fun r H7 locs hp hF hS1 => ?_)
  obtain ⟨ys, rfl, hys⟩ := hp
  have hP := zpk hP hF
  have hP : va_P G.1 zCl ([(qr4, zI G (St_n σ (St_ea σ j)) (tmV (St_p σ) (St_n σ (St_ea σ j)) (St_sg σ (St_ea σ j)) (St_ev σ j) (St_ev σ j)))]) H7 := hP
  have hD : va_D (zA M0 H0) ([(qr4, zI G (St_n σ (St_ea σ j)) (tmV (St_p σ) (St_n σ (St_ea σ j)) (St_sg σ (St_ea σ j)) (St_ev σ j) (St_ev σ j)))]) := hD
  have hS := hS1
  have hyb : ys = 1 ∨ ys = 0 := hys.imp (fun z => z.1) (fun z => z.1)
  refine z_zeq (tgt := 142) hx hb dX3_elementNow_135 (by decide) (by omega) (fun c8 => ?_) (fun c8 => ?_)
  · refine lv_iconst (v := iI 0) hx hb dX3_elementNow_142 rfl ?_
    exact z_iret hC hrt hlk hQ hS ⟨zle (z := 1) rfl (by omega), zle (z := 16) rfl (by omega)⟩ ⟨_, rfl, b2i_f (by cases e : zeV (St_n σ (St_ea σ j)) (plV (St_p σ) (-1) (tmV (St_p σ) (St_n σ (St_ea σ j)) (St_sg σ (St_ea σ j)) (St_ev σ j) (St_ev σ j)) (St_ev σ j)); rfl; exfalso; rcases hys with z | ⟨-, j9, hj9, hne⟩; omega; exact hne ((zeV_same hp hT hVj).mp e j9 hj9))⟩ dX3_elementNow_143
  · refine lv_iconst (v := iI 1) hx hb dX3_elementNow_138 rfl ?_
    refine lv_goto (tgt := 143) hx hb dX3_elementNow_139 (by decide) ?_
    exact z_iret hC hrt hlk hQ hS ⟨zle (z := 1) rfl (by omega), zle (z := 16) rfl (by omega)⟩ ⟨_, rfl, b2i_t ((zeV_same hp hT hVj).mpr (hys.resolve_right (fun z => by have := z.1; omega)).2)⟩ dX3_elementNow_143

abbrev rm_m_X3_elementNow_7 : Room := { frames := 5, cells := 1, slots := 16, locals := 108 }
set_option maxHeartbeats 4000000 in
theorem m_X3_elementNow_7 {l : Launch} {s0 : State} {G : zG} (hE : zE l s0 G) (H0 : Heap) (hO : zO s0 H0) (μ : Ro → Nat) (σ : St) (th : Int) (j : Nat) (hh : HM G s0 μ σ th H0) (hj : j < St_ne σ) : zM l s0 yX3_elementNow cX3_elementNow 3 (some FieldType.int) rm_m_X3_elementNow_7 [.ref (μ (0, 0, 0)), .int (iI ((j : Nat) : Int)), .int (iI 7)] H0 M0 (ri (fun y _ => y = oeV σ j 7)) := by
  refine z_met hE (by decide +kernel) (Nat.le_of_ble_eq_true rfl) ?_
  intro pp ee ss mm args below meth cd Q ls hC hml hrt hlk hnm hH hQ hS hl
  have hx := hC.x
  have hb := hC.b
  have hl : lv_has ls 3 [(0, .ref (μ (0, 0, 0))), (1, .int (iI ((j : Nat) : Int))), (2, .int (iI 7))] := hl
  have hP : va_P G.1 zCl [] H0 := va_nil
  have hD : va_D (zA M0 H0) [] := va_nilD
  have hH1 := hh
  obtain ⟨hp, hna, hal, hne9, hel9, hmr9⟩ := id hh.ok
  have hp7 : 0 < St_p σ ∧ St_p σ ≤ 7 := by rcases hp with h | h | h <;> rw [h] <;> decide
  have heaj := hh.ea hj
  have hnn := hh.n heaj
  refine lv_iload_n hx hb dX3_elementNow_0 rfl (lv_at hl 2 rfl) ?_
  refine lv_tableIn (off := 143) (tgt := 144) hx hb dX3_elementNow_1 (by decide) (by decide) rfl (by decide) ?_
  refine lv_aload_n hx hb dX3_elementNow_144 rfl (lv_at hl 0 rfl) ?_
  refine lv_iload_n hx hb dX3_elementNow_145 rfl (lv_at hl 1 rfl) ?_
  have hH1 : HM G s0 μ σ th H0 := hh.ext0 hE (zS_F hS)
  refine z_go 0 0 (z_runV (As := [.int (iI ((j : Nat) : Int))]) (rest := []) hC hml hl.1 (m_X3_isVector hE H0 (hO.ext0 (zS_F hS)) μ σ th j hH1 hj) (lw_V q1761 q1763 qs46 q67 q1764) rfl nd_X3_isVector rfl (z_rv hC (ci := 2) rfl hH1.2.2.1.1 rfl) rfl (Nat.le_of_ble_eq_true rfl) ⟨Nat.le_of_ble_eq_true rfl, Nat.le_of_ble_eq_true rfl⟩ ⟨zfit (k := 0) (z := 1) rfl rfl (by omega), zfit (k := 0) (z := 16) rfl rfl (by omega)⟩ dX3_elementNow_146) ⟨zad (k := 0) rfl (by omega), zad (k := 0) rfl (by omega)⟩ hS (fun _ z => z.elim) (fun r H1 locs hp hF hS1 => ?_)
  obtain ⟨_, rfl, rfl⟩ := hp
  have hP := zpk hP hF
  have hP : va_P G.1 zCl ([]) H1 := hP
  have hD : va_D (zA M0 H0) ([]) := hD
  have hS := hS1
  refine z_zeq (tgt := 160) hx hb dX3_elementNow_149 (by decide) (by unfold b2i; split <;> omega) (fun cv => ?_) (fun cv => ?_)
  · refine lv_iconst (v := iI (-1)) hx hb dX3_elementNow_160 rfl ?_
    exact z_iret hC hrt hlk hQ hS ⟨zle (z := 1) rfl (by omega), zle (z := 16) rfl (by omega)⟩ ⟨_, rfl, by show _ = sqV _ _ _ _ _; rw [veB_v, if_neg (by rw [b2i_z cv]; decide)]⟩ dX3_elementNow_161
  · refine lv_aload_n hx hb dX3_elementNow_152 rfl (lv_at hl 0 rfl) ?_
    refine lv_iload_n hx hb dX3_elementNow_153 rfl (lv_at hl 1 rfl) ?_
    have hH1 : HM G s0 μ σ th H1 := hh.ext0 hE (zS_F hS)
    refine z_go 1 16 (z_runV (As := [.int (iI ((j : Nat) : Int))]) (rest := []) hC hml hl.1 (m_X3_squareOf hE H1 (hO.ext0 (zS_F hS)) μ σ th j hH1 hj) (lw_V q1766 q1768 qs47 q67 q1769) rfl nd_X3_squareOf rfl (z_rv hC (ci := 2) rfl hH1.2.2.1.1 rfl) rfl (Nat.le_of_ble_eq_true rfl) ⟨Nat.le_of_ble_eq_true rfl, Nat.le_of_ble_eq_true rfl⟩ ⟨zfit (k := 1) (z := 1) rfl rfl (by omega), zfit (k := 16) (z := 16) rfl rfl (by omega)⟩ dX3_elementNow_154) ⟨zad (k := 1) rfl (by omega), zad (k := 16) rfl (by omega)⟩ hS (fun _ z => z.elim) (fun r H2 locs hp hF hS1 => ?_)
    obtain ⟨_, rfl, rfl⟩ := hp
    have hP := zpk hP hF
    have hP : va_P G.1 zCl ([]) H2 := hP
    have hD : va_D (zA M0 H0) ([]) := hD
    have hS := hS1
    refine lv_goto (tgt := 161) hx hb dX3_elementNow_157 (by decide) ?_
    exact z_iret hC hrt hlk hQ hS ⟨zle (z := 1) rfl (by omega), zle (z := 16) rfl (by omega)⟩ ⟨_, rfl, by show _ = sqV _ _ _ _ _; rw [veB_v, if_pos (b2i_nz cv)]⟩ dX3_elementNow_161

abbrev rm_m_X3_elementNow_8 : Room := { frames := 5, cells := 42, slots := 616, locals := 111 }
set_option maxHeartbeats 4000000 in
theorem m_X3_elementNow_8 {l : Launch} {s0 : State} {G : zG} (hE : zE l s0 G) (H0 : Heap) (hO : zO s0 H0) (μ : Ro → Nat) (σ : St) (th : Int) (j : Nat) (hh : HM G s0 μ σ th H0) (hj : j < St_ne σ) : zM l s0 yX3_elementNow cX3_elementNow 3 (some FieldType.int) rm_m_X3_elementNow_8 [.ref (μ (0, 0, 0)), .int (iI ((j : Nat) : Int)), .int (iI 8)] H0 M0 (ri (fun y _ => y = oeV σ j 8)) := by
  refine z_met hE (by decide +kernel) (Nat.le_of_ble_eq_true rfl) ?_
  intro pp ee ss mm args below meth cd Q ls hC hml hrt hlk hnm hH hQ hS hl
  have hx := hC.x
  have hb := hC.b
  have hl : lv_has ls 3 [(0, .ref (μ (0, 0, 0))), (1, .int (iI ((j : Nat) : Int))), (2, .int (iI 8))] := hl
  have hP : va_P G.1 zCl [] H0 := va_nil
  have hD : va_D (zA M0 H0) [] := va_nilD
  have hH1 := hh
  obtain ⟨hp, hna, hal, hne9, hel9, hmr9⟩ := id hh.ok
  have hp7 : 0 < St_p σ ∧ St_p σ ≤ 7 := by rcases hp with h | h | h <;> rw [h] <;> decide
  have heaj := hh.ea hj
  have hnn := hh.n heaj
  refine lv_iload_n hx hb dX3_elementNow_0 rfl (lv_at hl 2 rfl) ?_
  refine lv_tableOut (tgt := 162) hx hb dX3_elementNow_1 (by decide) (by decide) ?_
  refine lv_aload_n hx hb dX3_elementNow_162 rfl (lv_at hl 0 rfl) ?_
  refine lv_aload_n hx hb dX3_elementNow_163 rfl (lv_at hl 0 rfl) ?_
  refine lv_iload_n hx hb dX3_elementNow_164 rfl (lv_at hl 1 rfl) ?_
  refine lv_iload_n hx hb dX3_elementNow_165 rfl (lv_at hl 2 rfl) ?_
  refine lv_bipush (v := iI 8) hx hb dX3_elementNow_166 (by decide) ?_
  refine z_cne (tgt := 175) hx hb dX3_elementNow_168 (by decide) (by omega) (fun c1 => ?_) (fun c1 => ?_)
  · omega
  · refine lv_iconst (v := iI 1) hx hb dX3_elementNow_171 rfl ?_
    refine lv_goto (tgt := 176) hx hb dX3_elementNow_172 (by decide) ?_
    have hsz9 : H0.size ≤ H0.size := hS.1
    have hH1 : HM G s0 μ σ th H0 := hh.ext0 hE (zS_F hS)
    refine z_go 40 600 (z_runV (As := [.int (iI ((j : Nat) : Int)), .int (iI 1)]) (rest := [.ref (μ (0, 0, 0))]) hC hml hl.1 (m_X3_columns hE H0 (hO.ext0 (zS_F hS)) μ σ th j 1 hH1 hj (by decide)) (lw_V q1744 q1746 qs43 q67 q1747) rfl nd_X3_columns rfl (z_rv hC (ci := 2) rfl hH1.2.2.1.1 rfl) rfl (Nat.le_of_ble_eq_true rfl) ⟨Nat.le_of_ble_eq_true rfl, Nat.le_of_ble_eq_true rfl⟩ ⟨zfit (k := 40) (z := 42) rfl rfl (by omega), zfit (k := 600) (z := 616) rfl rfl (by omega)⟩ dX3_elementNow_176) ⟨zad (k := 40) rfl (by omega), zad (k := 600) rfl (by omega)⟩ hS (fun _ z => z.elim) (fun r H2 locs hp hF hS1 => ?_)
    obtain ⟨qc, rfl, ro, F, hFc, hN⟩ := hp
    have hP := hN.1
    have hD : va_D (zA M0 H0) _ := va_D.weaken hN.2 (fun _ _ _ z => Or.inr (Nat.le_trans hsz9 z))
    have hP : va_P G.1 zCl ([(qc, zII G (St_n σ (St_ea σ j)) (fun i => some (ro i)))] ++ (zRows G (St_n σ (St_ea σ j)) (St_n σ (St_ea σ j)) ro F ++ [])) H2 := hP
    have hD : va_D (zA M0 H0) ([(qc, zII G (St_n σ (St_ea σ j)) (fun i => some (ro i)))] ++ (zRows G (St_n σ (St_ea σ j)) (St_n σ (St_ea σ j)) ro F ++ [])) := hD
    have hS := hS1
    refine lv_iconst (v := iI 0) hx hb dX3_elementNow_179 rfl ?_
    refine z_newII hC hP hD hS (N := 0) (c1 := 41) (s1 := 600) q1748 rfl (by omega) ⟨zle (z := 42) rfl (by omega), zle (z := 616) rfl (by omega)⟩ ⟨by omega, by omega⟩ (ws' := fun q3 => ([(qc, zII G (St_n σ (St_ea σ j)) (fun i => some (ro i)))] ++ (zRows G (St_n σ (St_ea σ j)) (St_n σ (St_ea σ j)) ro F ++ [])) ++ [(q3, zII G 0 (fun _ => none))]) (fun _ => rfl) dX3_elementNow_180 (fun q3 H4 hq0q3 hq1q3 hP hD hS hF => ?_)
    have hP : va_P G.1 zCl ([(qc, zII G (St_n σ (St_ea σ j)) (fun i => some (ro i))), (q3, zII G 0 (fun _ => none))] ++ (zRows G (St_n σ (St_ea σ j)) (St_n σ (St_ea σ j)) ro F ++ [])) H4 := zswapP hP
    have hD : va_D (zA M0 H0) ([(qc, zII G (St_n σ (St_ea σ j)) (fun i => some (ro i))), (q3, zII G 0 (fun _ => none))] ++ (zRows G (St_n σ (St_ea σ j)) (St_n σ (St_ea σ j)) ro F ++ [])) := zswapD hD
    refine lv_iconst (v := iI 0) hx hb dX3_elementNow_183 rfl ?_
    have hP := zdrop2P hP
    have hD := zdrop2D hD
    have hP : va_P G.1 zCl ([(qc, zII G (St_n σ (St_ea σ j)) (fun i => some (ro i)))] ++ (zRows G (St_n σ (St_ea σ j)) (St_n σ (St_ea σ j)) ro F ++ [])) H4 := hP
    have hH1 : HM G s0 μ σ th H4 := hh.ext0 hE (zS_F hS)
    have hDn2 : va_D (fun y => s0.heap.size ≤ y ∧ ∀ c, dmMo σ c → μ c ≠ G.2 12 → μ c ≠ y) _ := va_D.weaken hD (fun k x hx z => (⟨z.elim False.elim (fun z => Nat.le_trans hO.1 z), fun c hc _ e => z.elim False.elim (fun z => by have := hh.lt hE hO c hc; omega)⟩ : s0.heap.size ≤ x.1 ∧ ∀ c, dmMo σ c → μ c ≠ G.2 12 → μ c ≠ x.1))
    refine z_go 42 616 (z_runV (As := [.ref qc, .ref q3, .int (iI 0)]) (rest := []) hC hml hl.1 (m_X3_free_0 hE H4 (hO.ext0 (zS_F hS)) μ σ th qc (St_n σ (St_ea σ j)) ro F (mxV (St_p σ) (St_ev σ j) (St_sg σ (St_ea σ j)) 1) q3 hH1 hnn hP hDn2 (fun c hc i hi => by rw [hFc c i hc hi]; exact mxV_in hp _ _ _ _ _) (fun c i hc hi => hFc c i hc hi)) (lw_V q1749 q1751 qs44 q67 q1752) rfl nd_X3_free rfl (z_rv hC (ci := 2) rfl hH1.2.2.1.1 rfl) rfl (Nat.le_of_ble_eq_true rfl) ⟨Nat.le_of_ble_eq_true rfl, Nat.le_of_ble_eq_true rfl⟩ ⟨zfit (k := 1) (z := 42) rfl rfl (by omega), zfit (k := 16) (z := 616) rfl rfl (by omega)⟩ dX3_elementNow_184) ⟨zad (k := 1) rfl (by omega), zad (k := 16) rfl (by omega)⟩ hS (fun z hz => by obtain ⟨e, he⟩ := hz; obtain ⟨i, hi⟩ := List.mem_iff_getElem?.mp he; exact hD.2 i _ hi) (fun r H5 locs hp hF hS1 => ?_)
    obtain ⟨_, rfl, rfl⟩ := hp
    have hP : va_P G.1 zCl [] H5 := va_nil
    have hD : va_D (zA M0 H0) [] := va_nilD
    have hP : va_P G.1 zCl ([]) H5 := hP
    have hD : va_D (zA M0 H0) ([]) := hD
    have hS := hS1
    exact z_iret hC hrt hlk hQ hS ⟨zle (z := 42) rfl (by omega), zle (z := 616) rfl (by omega)⟩ ⟨_, rfl, rfl⟩ dX3_elementNow_187

abbrev rm_m_X3_elementNow_9 : Room := { frames := 5, cells := 42, slots := 616, locals := 111 }
set_option maxHeartbeats 4000000 in
theorem m_X3_elementNow_9 {l : Launch} {s0 : State} {G : zG} (hE : zE l s0 G) (H0 : Heap) (hO : zO s0 H0) (μ : Ro → Nat) (σ : St) (th : Int) (j : Nat) (hh : HM G s0 μ σ th H0) (hj : j < St_ne σ) : zM l s0 yX3_elementNow cX3_elementNow 3 (some FieldType.int) rm_m_X3_elementNow_9 [.ref (μ (0, 0, 0)), .int (iI ((j : Nat) : Int)), .int (iI 9)] H0 M0 (ri (fun y _ => y = oeV σ j 9)) := by
  refine z_met hE (by decide +kernel) (Nat.le_of_ble_eq_true rfl) ?_
  intro pp ee ss mm args below meth cd Q ls hC hml hrt hlk hnm hH hQ hS hl
  have hx := hC.x
  have hb := hC.b
  have hl : lv_has ls 3 [(0, .ref (μ (0, 0, 0))), (1, .int (iI ((j : Nat) : Int))), (2, .int (iI 9))] := hl
  have hP : va_P G.1 zCl [] H0 := va_nil
  have hD : va_D (zA M0 H0) [] := va_nilD
  have hH1 := hh
  obtain ⟨hp, hna, hal, hne9, hel9, hmr9⟩ := id hh.ok
  have hp7 : 0 < St_p σ ∧ St_p σ ≤ 7 := by rcases hp with h | h | h <;> rw [h] <;> decide
  have heaj := hh.ea hj
  have hnn := hh.n heaj
  refine lv_iload_n hx hb dX3_elementNow_0 rfl (lv_at hl 2 rfl) ?_
  refine lv_tableOut (tgt := 162) hx hb dX3_elementNow_1 (by decide) (by decide) ?_
  refine lv_aload_n hx hb dX3_elementNow_162 rfl (lv_at hl 0 rfl) ?_
  refine lv_aload_n hx hb dX3_elementNow_163 rfl (lv_at hl 0 rfl) ?_
  refine lv_iload_n hx hb dX3_elementNow_164 rfl (lv_at hl 1 rfl) ?_
  refine lv_iload_n hx hb dX3_elementNow_165 rfl (lv_at hl 2 rfl) ?_
  refine lv_bipush (v := iI 8) hx hb dX3_elementNow_166 (by decide) ?_
  refine z_cne (tgt := 175) hx hb dX3_elementNow_168 (by decide) (by omega) (fun c1 => ?_) (fun c1 => ?_)
  · refine lv_iconst (v := iI 0) hx hb dX3_elementNow_175 rfl ?_
    have hsz9 : H0.size ≤ H0.size := hS.1
    have hH1 : HM G s0 μ σ th H0 := hh.ext0 hE (zS_F hS)
    refine z_go 40 600 (z_runV (As := [.int (iI ((j : Nat) : Int)), .int (iI 0)]) (rest := [.ref (μ (0, 0, 0))]) hC hml hl.1 (m_X3_columns hE H0 (hO.ext0 (zS_F hS)) μ σ th j 0 hH1 hj (by decide)) (lw_V q1744 q1746 qs43 q67 q1747) rfl nd_X3_columns rfl (z_rv hC (ci := 2) rfl hH1.2.2.1.1 rfl) rfl (Nat.le_of_ble_eq_true rfl) ⟨Nat.le_of_ble_eq_true rfl, Nat.le_of_ble_eq_true rfl⟩ ⟨zfit (k := 40) (z := 42) rfl rfl (by omega), zfit (k := 600) (z := 616) rfl rfl (by omega)⟩ dX3_elementNow_176) ⟨zad (k := 40) rfl (by omega), zad (k := 600) rfl (by omega)⟩ hS (fun _ z => z.elim) (fun r H2 locs hp hF hS1 => ?_)
    obtain ⟨qc, rfl, ro, F, hFc, hN⟩ := hp
    have hP := hN.1
    have hD : va_D (zA M0 H0) _ := va_D.weaken hN.2 (fun _ _ _ z => Or.inr (Nat.le_trans hsz9 z))
    have hP : va_P G.1 zCl ([(qc, zII G (St_n σ (St_ea σ j)) (fun i => some (ro i)))] ++ (zRows G (St_n σ (St_ea σ j)) (St_n σ (St_ea σ j)) ro F ++ [])) H2 := hP
    have hD : va_D (zA M0 H0) ([(qc, zII G (St_n σ (St_ea σ j)) (fun i => some (ro i)))] ++ (zRows G (St_n σ (St_ea σ j)) (St_n σ (St_ea σ j)) ro F ++ [])) := hD
    have hS := hS1
    refine lv_iconst (v := iI 0) hx hb dX3_elementNow_179 rfl ?_
    refine z_newII hC hP hD hS (N := 0) (c1 := 41) (s1 := 600) q1748 rfl (by omega) ⟨zle (z := 42) rfl (by omega), zle (z := 616) rfl (by omega)⟩ ⟨by omega, by omega⟩ (ws' := fun q3 => ([(qc, zII G (St_n σ (St_ea σ j)) (fun i => some (ro i)))] ++ (zRows G (St_n σ (St_ea σ j)) (St_n σ (St_ea σ j)) ro F ++ [])) ++ [(q3, zII G 0 (fun _ => none))]) (fun _ => rfl) dX3_elementNow_180 (fun q3 H4 hq0q3 hq1q3 hP hD hS hF => ?_)
    have hP : va_P G.1 zCl ([(qc, zII G (St_n σ (St_ea σ j)) (fun i => some (ro i))), (q3, zII G 0 (fun _ => none))] ++ (zRows G (St_n σ (St_ea σ j)) (St_n σ (St_ea σ j)) ro F ++ [])) H4 := zswapP hP
    have hD : va_D (zA M0 H0) ([(qc, zII G (St_n σ (St_ea σ j)) (fun i => some (ro i))), (q3, zII G 0 (fun _ => none))] ++ (zRows G (St_n σ (St_ea σ j)) (St_n σ (St_ea σ j)) ro F ++ [])) := zswapD hD
    refine lv_iconst (v := iI 0) hx hb dX3_elementNow_183 rfl ?_
    have hP := zdrop2P hP
    have hD := zdrop2D hD
    have hP : va_P G.1 zCl ([(qc, zII G (St_n σ (St_ea σ j)) (fun i => some (ro i)))] ++ (zRows G (St_n σ (St_ea σ j)) (St_n σ (St_ea σ j)) ro F ++ [])) H4 := hP
    have hH1 : HM G s0 μ σ th H4 := hh.ext0 hE (zS_F hS)
    have hDn2 : va_D (fun y => s0.heap.size ≤ y ∧ ∀ c, dmMo σ c → μ c ≠ G.2 12 → μ c ≠ y) _ := va_D.weaken hD (fun k x hx z => (⟨z.elim False.elim (fun z => Nat.le_trans hO.1 z), fun c hc _ e => z.elim False.elim (fun z => by have := hh.lt hE hO c hc; omega)⟩ : s0.heap.size ≤ x.1 ∧ ∀ c, dmMo σ c → μ c ≠ G.2 12 → μ c ≠ x.1))
    refine z_go 42 616 (z_runV (As := [.ref qc, .ref q3, .int (iI 0)]) (rest := []) hC hml hl.1 (m_X3_free_0 hE H4 (hO.ext0 (zS_F hS)) μ σ th qc (St_n σ (St_ea σ j)) ro F (mxV (St_p σ) (St_ev σ j) (St_sg σ (St_ea σ j)) 0) q3 hH1 hnn hP hDn2 (fun c hc i hi => by rw [hFc c i hc hi]; exact mxV_in hp _ _ _ _ _) (fun c i hc hi => hFc c i hc hi)) (lw_V q1749 q1751 qs44 q67 q1752) rfl nd_X3_free rfl (z_rv hC (ci := 2) rfl hH1.2.2.1.1 rfl) rfl (Nat.le_of_ble_eq_true rfl) ⟨Nat.le_of_ble_eq_true rfl, Nat.le_of_ble_eq_true rfl⟩ ⟨zfit (k := 1) (z := 42) rfl rfl (by omega), zfit (k := 16) (z := 616) rfl rfl (by omega)⟩ dX3_elementNow_184) ⟨zad (k := 1) rfl (by omega), zad (k := 16) rfl (by omega)⟩ hS (fun z hz => by obtain ⟨e, he⟩ := hz; obtain ⟨i, hi⟩ := List.mem_iff_getElem?.mp he; exact hD.2 i _ hi) (fun r H5 locs hp hF hS1 => ?_)
    obtain ⟨_, rfl, rfl⟩ := hp
    have hP : va_P G.1 zCl [] H5 := va_nil
    have hD : va_D (zA M0 H0) [] := va_nilD
    have hP : va_P G.1 zCl ([]) H5 := hP
    have hD : va_D (zA M0 H0) ([]) := hD
    have hS := hS1
    exact z_iret hC hrt hlk hQ hS ⟨zle (z := 42) rfl (by omega), zle (z := 616) rfl (by omega)⟩ ⟨_, rfl, rfl⟩ dX3_elementNow_187
  · omega

abbrev rm_m_X3_ofElement : Room := { frames := 6, cells := 200, slots := 4000, locals := 133 }
set_option maxHeartbeats 4000000 in
theorem m_X3_ofElement {l : Launch} {s0 : State} {G : zG} (hE : zE l s0 G) (H0 : Heap) (hO : zO s0 H0) (μ : Ro → Nat) (σ : St) (th : Int) (i w : Int) (hh : HM G s0 μ σ th H0) (hi : zi i ∧ zi w) : zM l s0 yX3_ofElement cX3_ofElement 3 (some FieldType.int) rm_m_X3_ofElement [.ref (μ (0, 0, 0)), .int (iI i), .int (iI w)] H0 (FM G μ σ) (HPM G s0 H0 μ σ [IOB, IAE] ((fun y σ' => σ' = σ ∧ (∃ a t : Nat, (i = a ∧ a < St_ne σ) ∧ (w = t ∧ t ≤ 9) ∧ y = oeV σ a t))) ((fun E => X1ea σ i (0 ≤ w ∧ w ≤ 9) E))) := by
  refine z_met hE (by decide +kernel) (Nat.le_of_ble_eq_true rfl) ?_
  intro pp ee ss mm args below meth cd Q ls hC hml hrt hlk hnm hH hQ hS hl
  have hx := hC.x
  have hb := hC.b
  have hl : lv_has ls 3 [(0, .ref (μ (0, 0, 0))), (1, .int (iI i)), (2, .int (iI w))] := hl
  have hP : va_P G.1 zCl [] H0 := va_nil
  have hD : va_D (zA (FM G μ σ) H0) [] := va_nilD
  have hMo : ∀ z, (FM G μ σ) z → s0.heap.size ≤ z := fun z hz => FM.ge hh.sep hz
  have hH1 := hh
  obtain ⟨hp, hna, hal, hne9, hel9, hmr9⟩ := id hh.ok
  have hp7 : 0 < St_p σ ∧ St_p σ ≤ 7 := by rcases hp with h | h | h <;> rw [h] <;> decide
  have hP : va_P G.1 zCl [((μ (0, 0, 0)), zOb 2 [.int (iI th), .int (iI (St_p σ)), .int (iI ((St_kn σ : Nat) : Int)), .ref (μ (1, 0, 0)), .ref (μ (3, 0, 0))])] H0 := zP1 hh.2.2.1.1
  have hD : va_D (zA (FM G μ σ) H0) [((μ (0, 0, 0)), zOb 2 [.int (iI th), .int (iI (St_p σ)), .int (iI ((St_kn σ : Nat) : Int)), .ref (μ (1, 0, 0)), .ref (μ (3, 0, 0))])] := zD1 (Or.inl (FM.in hE hh.sep (domM0 0 (by omega)) (by simp [rAm])))
  refine lv_aload_n hx hb dX3_ofElement_0 rfl (lv_at hl 0 rfl) ?_
  refine lv_iconst (v := iI 0) hx hb dX3_ofElement_1 rfl ?_
  refine z_putO hC hP hD hS 0 (k := 0) rfl rfl in_X3 tyX3_ok nmX3 (by decide) q1495 (fun _ h => h) rfl rfl rfl rfl (Nat.le_of_ble_eq_true rfl) (ws' := [((μ (0, 0, 0)), zOb 2 [.int (iI 0), .int (iI (St_p σ)), .int (iI ((St_kn σ : Nat) : Int)), .ref (μ (1, 0, 0)), .ref (μ (3, 0, 0))])]) rfl dX3_ofElement_2 (fun H1 locs hP hD hS hZ1 hZ2 => ?_)
  have hH1 : HM G s0 μ σ 0 H1 := HM.thr hE hH1 (zF.one hZ1 hZ2) (hP 0 _ rfl)
  have hP : va_P G.1 zCl [] H1 := va_nil
  have hD : va_D (zA (FM G μ σ) H0) [] := va_nilD
  refine lv_aload_n hx hb dX3_ofElement_5 rfl (lv_at hl 0 rfl) ?_
  refine lv_iload_n hx hb dX3_ofElement_6 rfl (lv_at hl 1 rfl) ?_
  refine z_go 0 0 (z_runV (As := [.int (iI i)]) (rest := []) hC hml hl.1 (m_X3_isElement hE H1 (hO.ext (zS_F hS) hMo) μ σ 0 i hH1 hi.1) (lw_V q1650 q1652 qs35 q67 q1653) rfl nd_X3_isElement rfl (z_rv hC (ci := 2) rfl hH1.2.2.1.1 rfl) rfl (Nat.le_of_ble_eq_true rfl) ⟨Nat.le_of_ble_eq_true rfl, Nat.le_of_ble_eq_true rfl⟩ ⟨zfit (k := 0) (z := 200) rfl rfl (by omega), zfit (k := 0) (z := 4000) rfl rfl (by omega)⟩ dX3_ofElement_7) ⟨zad (k := 0) rfl (by omega), zad (k := 0) rfl (by omega)⟩ hS (fun _ z => z.elim) (fun r H2 locs hp hF hS1 => ?_)
  obtain ⟨_, rfl, rfl⟩ := hp
  have hP := zpk hP hF
  have hP : va_P G.1 zCl ([]) H2 := hP
  have hD : va_D (zA (FM G μ σ) H0) ([]) := hD
  have hH1 : HM G s0 μ σ 0 H2 := hH1.ext0 hE hF
  have hS := hS1
  obtain ⟨fl, hfl, hfl2⟩ : ∃ fl : Nat, fl ≤ 1 ∧ (if 0 ≤ i ∧ i < (((St_ne σ) : Nat) : Int) then (1 : Int) else 0) = fl ∧ (fl = 1 ↔ 0 ≤ i ∧ i < (((St_ne σ) : Nat) : Int)) := by by_cases h : 0 ≤ i ∧ i < (((St_ne σ) : Nat) : Int); exact ⟨1, by decide, by rw [if_pos h]; rfl, ⟨fun _ => h, fun _ => rfl⟩⟩; exact ⟨0, by decide, by rw [if_neg h]; rfl, ⟨fun z => absurd z (by decide), fun z => absurd z h⟩⟩
  refine z_top (b := ((fl : Nat) : Int)) (hfl2.1) ?_
  refine z_zne (tgt := 19) hx hb dX3_ofElement_10 (by decide) (by omega) (fun c3 => ?_) (fun c3 => ?_)
  · have hok9 := hfl2.2.mp (by omega)
    obtain ⟨a, rfl⟩ : ∃ a : Nat, i = a := ⟨i.toNat, by omega⟩
    have ha9 : a < St_ne σ := by omega
    refine lv_iload_n hx hb dX3_ofElement_19 rfl (lv_at hl 2 rfl) ?_
    refine lv_iconst (v := iI 0) hx hb dX3_ofElement_20 rfl ?_
    refine lv_bipush (v := iI 9) hx hb dX3_ofElement_21 (by decide) ?_
    refine z_go 0 0 (z_runS (As := [.int (iI w), .int (iI 0), .int (iI 9)]) (rest := []) hC hml hl.1 (m_X3_in hE H2 (hO.ext (zS_F hS) hMo) (0) (9) (w) ⟨by omega, by omega, by omega⟩) (lw_S q1536 q1537 q67 q1538) nd_X3_in rfl rfl (Nat.le_of_ble_eq_true rfl) ⟨Nat.le_of_ble_eq_true rfl, Nat.le_of_ble_eq_true rfl⟩ ⟨zfit (k := 0) (z := 200) rfl rfl (by omega), zfit (k := 0) (z := 4000) rfl rfl (by omega)⟩ dX3_ofElement_23) ⟨zad (k := 0) rfl (by omega), zad (k := 0) rfl (by omega)⟩ hS (fun _ z => z.elim) (fun r H4 locs hp hF hS1 => ?_)
    obtain ⟨_, rfl, rfl⟩ := hp
    have hP := zpk hP hF
    have hP : va_P G.1 zCl ([]) H4 := hP
    have hD : va_D (zA (FM G μ σ) H0) ([]) := hD
    have hH1 : HM G s0 μ σ 0 H4 := hH1.ext0 hE hF
    have hS := hS1
    obtain ⟨fl, hfl, hfl2⟩ : ∃ fl : Nat, fl ≤ 1 ∧ (if 0 ≤ w ∧ w ≤ 9 then (1 : Int) else 0) = fl ∧ (fl = 1 ↔ 0 ≤ w ∧ w ≤ 9) := by by_cases h : 0 ≤ w ∧ w ≤ 9; exact ⟨1, by decide, by rw [if_pos h]; rfl, ⟨fun _ => h, fun _ => rfl⟩⟩; exact ⟨0, by decide, by rw [if_neg h]; rfl, ⟨fun z => absurd z (by decide), fun z => absurd z h⟩⟩
    refine z_top (b := ((fl : Nat) : Int)) (hfl2.1) ?_
    refine z_zne (tgt := 35) hx hb dX3_ofElement_26 (by decide) (by omega) (fun c5 => ?_) (fun c5 => ?_)
    · have hrg : 0 ≤ w ∧ w ≤ 9 := hfl2.2.mp (by omega)
      obtain ⟨t, rfl⟩ : ∃ t : Nat, w = t := ⟨w.toNat, by omega⟩
      refine lv_aload_n hx hb dX3_ofElement_35 rfl (lv_at hl 0 rfl) ?_
      refine lv_iload_n hx hb dX3_ofElement_36 rfl (lv_at hl 1 rfl) ?_
      refine lv_iload_n hx hb dX3_ofElement_37 rfl (lv_at hl 2 rfl) ?_
      rcases (show t = 0 ∨ t = 1 ∨ t = 2 ∨ t = 3 ∨ t = 4 ∨ t = 5 ∨ t = 6 ∨ t = 7 ∨ t = 8 ∨ t = 9 from by omega) with ht9 | ht9 | ht9 | ht9 | ht9 | ht9 | ht9 | ht9 | ht9 | ht9
      · refine z_top (b := 0) (by omega) ?_
        refine z_go 0 0 (z_runV (As := [.int (iI ((a : Nat) : Int)), .int (iI 0)]) (rest := []) hC hml hl.1 (m_X3_elementNow_0 hE H4 (hO.ext (zS_F hS) hMo) μ σ 0 a hH1 (by omega)) (lw_V q1811 q1813 qs48 q67 q1814) rfl nd_X3_elementNow rfl (z_rv hC (ci := 2) rfl hH1.2.2.1.1 rfl) rfl (Nat.le_of_ble_eq_true rfl) ⟨Nat.le_of_ble_eq_true rfl, Nat.le_of_ble_eq_true rfl⟩ ⟨zfit (k := 0) (z := 200) rfl rfl (by omega), zfit (k := 0) (z := 4000) rfl rfl (by omega)⟩ dX3_ofElement_38) ⟨zad (k := 0) rfl (by omega), zad (k := 0) rfl (by omega)⟩ hS (fun _ z => z.elim) (fun r H6 locs hp hF hS1 => ?_)
        obtain ⟨_, rfl, rfl⟩ := hp
        have hP := zpk hP hF
        have hP : va_P G.1 zCl ([]) H6 := hP
        have hD : va_D (zA (FM G μ σ) H0) ([]) := hD
        have hH1 : HM G s0 μ σ 0 H6 := hH1.ext0 hE hF
        have hS := hS1
        exact z_iret hC hrt hlk hQ hS ⟨zle (z := 200) rfl (by omega), zle (z := 4000) rfl (by omega)⟩ ⟨_, rfl, 0, σ, PoM.same hH1, Or.inl ⟨rfl, rfl, a, 0, ⟨by omega, by omega⟩, ⟨by omega, by omega⟩, rfl⟩⟩ dX3_ofElement_41
      · refine z_top (b := 1) (by omega) ?_
        refine z_go 0 0 (z_runV (As := [.int (iI ((a : Nat) : Int)), .int (iI 1)]) (rest := []) hC hml hl.1 (m_X3_elementNow_1 hE H4 (hO.ext (zS_F hS) hMo) μ σ 0 a hH1 (by omega)) (lw_V q1811 q1813 qs48 q67 q1814) rfl nd_X3_elementNow rfl (z_rv hC (ci := 2) rfl hH1.2.2.1.1 rfl) rfl (Nat.le_of_ble_eq_true rfl) ⟨Nat.le_of_ble_eq_true rfl, Nat.le_of_ble_eq_true rfl⟩ ⟨zfit (k := 0) (z := 200) rfl rfl (by omega), zfit (k := 0) (z := 4000) rfl rfl (by omega)⟩ dX3_ofElement_38) ⟨zad (k := 0) rfl (by omega), zad (k := 0) rfl (by omega)⟩ hS (fun _ z => z.elim) (fun r H7 locs hp hF hS1 => ?_)
        obtain ⟨_, rfl, rfl⟩ := hp
        have hP := zpk hP hF
        have hP : va_P G.1 zCl ([]) H7 := hP
        have hD : va_D (zA (FM G μ σ) H0) ([]) := hD
        have hH1 : HM G s0 μ σ 0 H7 := hH1.ext0 hE hF
        have hS := hS1
        exact z_iret hC hrt hlk hQ hS ⟨zle (z := 200) rfl (by omega), zle (z := 4000) rfl (by omega)⟩ ⟨_, rfl, 0, σ, PoM.same hH1, Or.inl ⟨rfl, rfl, a, 1, ⟨by omega, by omega⟩, ⟨by omega, by omega⟩, rfl⟩⟩ dX3_ofElement_41
      · refine z_top (b := 2) (by omega) ?_
        refine z_go 2 32 (z_runV (As := [.int (iI ((a : Nat) : Int)), .int (iI 2)]) (rest := []) hC hml hl.1 (m_X3_elementNow_2 hE H4 (hO.ext (zS_F hS) hMo) μ σ 0 a hH1 (by omega)) (lw_V q1811 q1813 qs48 q67 q1814) rfl nd_X3_elementNow rfl (z_rv hC (ci := 2) rfl hH1.2.2.1.1 rfl) rfl (Nat.le_of_ble_eq_true rfl) ⟨Nat.le_of_ble_eq_true rfl, Nat.le_of_ble_eq_true rfl⟩ ⟨zfit (k := 2) (z := 200) rfl rfl (by omega), zfit (k := 32) (z := 4000) rfl rfl (by omega)⟩ dX3_ofElement_38) ⟨zad (k := 2) rfl (by omega), zad (k := 32) rfl (by omega)⟩ hS (fun _ z => z.elim) (fun r H8 locs hp hF hS1 => ?_)
        obtain ⟨_, rfl, rfl⟩ := hp
        have hP := zpk hP hF
        have hP : va_P G.1 zCl ([]) H8 := hP
        have hD : va_D (zA (FM G μ σ) H0) ([]) := hD
        have hH1 : HM G s0 μ σ 0 H8 := hH1.ext0 hE hF
        have hS := hS1
        exact z_iret hC hrt hlk hQ hS ⟨zle (z := 200) rfl (by omega), zle (z := 4000) rfl (by omega)⟩ ⟨_, rfl, 0, σ, PoM.same hH1, Or.inl ⟨rfl, rfl, a, 2, ⟨by omega, by omega⟩, ⟨by omega, by omega⟩, rfl⟩⟩ dX3_ofElement_41
      · refine z_top (b := 3) (by omega) ?_
        refine z_go 0 0 (z_runV (As := [.int (iI ((a : Nat) : Int)), .int (iI 3)]) (rest := []) hC hml hl.1 (m_X3_elementNow_3 hE H4 (hO.ext (zS_F hS) hMo) μ σ 0 a hH1 (by omega)) (lw_V q1811 q1813 qs48 q67 q1814) rfl nd_X3_elementNow rfl (z_rv hC (ci := 2) rfl hH1.2.2.1.1 rfl) rfl (Nat.le_of_ble_eq_true rfl) ⟨Nat.le_of_ble_eq_true rfl, Nat.le_of_ble_eq_true rfl⟩ ⟨zfit (k := 0) (z := 200) rfl rfl (by omega), zfit (k := 0) (z := 4000) rfl rfl (by omega)⟩ dX3_ofElement_38) ⟨zad (k := 0) rfl (by omega), zad (k := 0) rfl (by omega)⟩ hS (fun _ z => z.elim) (fun r H9 locs hp hF hS1 => ?_)
        obtain ⟨_, rfl, rfl⟩ := hp
        have hP := zpk hP hF
        have hP : va_P G.1 zCl ([]) H9 := hP
        have hD : va_D (zA (FM G μ σ) H0) ([]) := hD
        have hH1 : HM G s0 μ σ 0 H9 := hH1.ext0 hE hF
        have hS := hS1
        exact z_iret hC hrt hlk hQ hS ⟨zle (z := 200) rfl (by omega), zle (z := 4000) rfl (by omega)⟩ ⟨_, rfl, 0, σ, PoM.same hH1, Or.inl ⟨rfl, rfl, a, 3, ⟨by omega, by omega⟩, ⟨by omega, by omega⟩, rfl⟩⟩ dX3_ofElement_41
      · refine z_top (b := 4) (by omega) ?_
        refine z_go 70 1100 (z_runV (As := [.int (iI ((a : Nat) : Int)), .int (iI 4)]) (rest := []) hC hml hl.1 (m_X3_elementNow_4 hE H4 (hO.ext (zS_F hS) hMo) μ σ 0 a hH1 (by omega)) (lw_V q1811 q1813 qs48 q67 q1814) rfl nd_X3_elementNow rfl (z_rv hC (ci := 2) rfl hH1.2.2.1.1 rfl) rfl (Nat.le_of_ble_eq_true rfl) ⟨Nat.le_of_ble_eq_true rfl, Nat.le_of_ble_eq_true rfl⟩ ⟨zfit (k := 70) (z := 200) rfl rfl (by omega), zfit (k := 1100) (z := 4000) rfl rfl (by omega)⟩ dX3_ofElement_38) ⟨zad (k := 70) rfl (by omega), zad (k := 1100) rfl (by omega)⟩ hS (fun _ z => z.elim) (fun r H10 locs hp hF hS1 => ?_)
        obtain ⟨_, rfl, rfl⟩ := hp
        have hP := zpk hP hF
        have hP : va_P G.1 zCl ([]) H10 := hP
        have hD : va_D (zA (FM G μ σ) H0) ([]) := hD
        have hH1 : HM G s0 μ σ 0 H10 := hH1.ext0 hE hF
        have hS := hS1
        exact z_iret hC hrt hlk hQ hS ⟨zle (z := 200) rfl (by omega), zle (z := 4000) rfl (by omega)⟩ ⟨_, rfl, 0, σ, PoM.same hH1, Or.inl ⟨rfl, rfl, a, 4, ⟨by omega, by omega⟩, ⟨by omega, by omega⟩, rfl⟩⟩ dX3_ofElement_41
      · refine z_top (b := 5) (by omega) ?_
        refine z_go 70 1100 (z_runV (As := [.int (iI ((a : Nat) : Int)), .int (iI 5)]) (rest := []) hC hml hl.1 (m_X3_elementNow_5 hE H4 (hO.ext (zS_F hS) hMo) μ σ 0 a hH1 (by omega)) (lw_V q1811 q1813 qs48 q67 q1814) rfl nd_X3_elementNow rfl (z_rv hC (ci := 2) rfl hH1.2.2.1.1 rfl) rfl (Nat.le_of_ble_eq_true rfl) ⟨Nat.le_of_ble_eq_true rfl, Nat.le_of_ble_eq_true rfl⟩ ⟨zfit (k := 70) (z := 200) rfl rfl (by omega), zfit (k := 1100) (z := 4000) rfl rfl (by omega)⟩ dX3_ofElement_38) ⟨zad (k := 70) rfl (by omega), zad (k := 1100) rfl (by omega)⟩ hS (fun _ z => z.elim) (fun r H11 locs hp hF hS1 => ?_)
        obtain ⟨_, rfl, rfl⟩ := hp
        have hP := zpk hP hF
        have hP : va_P G.1 zCl ([]) H11 := hP
        have hD : va_D (zA (FM G μ σ) H0) ([]) := hD
        have hH1 : HM G s0 μ σ 0 H11 := hH1.ext0 hE hF
        have hS := hS1
        exact z_iret hC hrt hlk hQ hS ⟨zle (z := 200) rfl (by omega), zle (z := 4000) rfl (by omega)⟩ ⟨_, rfl, 0, σ, PoM.same hH1, Or.inl ⟨rfl, rfl, a, 5, ⟨by omega, by omega⟩, ⟨by omega, by omega⟩, rfl⟩⟩ dX3_ofElement_41
      · refine z_top (b := 6) (by omega) ?_
        refine z_go 1 16 (z_runV (As := [.int (iI ((a : Nat) : Int)), .int (iI 6)]) (rest := []) hC hml hl.1 (m_X3_elementNow_6 hE H4 (hO.ext (zS_F hS) hMo) μ σ 0 a hH1 (by omega)) (lw_V q1811 q1813 qs48 q67 q1814) rfl nd_X3_elementNow rfl (z_rv hC (ci := 2) rfl hH1.2.2.1.1 rfl) rfl (Nat.le_of_ble_eq_true rfl) ⟨Nat.le_of_ble_eq_true rfl, Nat.le_of_ble_eq_true rfl⟩ ⟨zfit (k := 1) (z := 200) rfl rfl (by omega), zfit (k := 16) (z := 4000) rfl rfl (by omega)⟩ dX3_ofElement_38) ⟨zad (k := 1) rfl (by omega), zad (k := 16) rfl (by omega)⟩ hS (fun _ z => z.elim) (fun r H12 locs hp hF hS1 => ?_)
        obtain ⟨_, rfl, rfl⟩ := hp
        have hP := zpk hP hF
        have hP : va_P G.1 zCl ([]) H12 := hP
        have hD : va_D (zA (FM G μ σ) H0) ([]) := hD
        have hH1 : HM G s0 μ σ 0 H12 := hH1.ext0 hE hF
        have hS := hS1
        exact z_iret hC hrt hlk hQ hS ⟨zle (z := 200) rfl (by omega), zle (z := 4000) rfl (by omega)⟩ ⟨_, rfl, 0, σ, PoM.same hH1, Or.inl ⟨rfl, rfl, a, 6, ⟨by omega, by omega⟩, ⟨by omega, by omega⟩, rfl⟩⟩ dX3_ofElement_41
      · refine z_top (b := 7) (by omega) ?_
        refine z_go 1 16 (z_runV (As := [.int (iI ((a : Nat) : Int)), .int (iI 7)]) (rest := []) hC hml hl.1 (m_X3_elementNow_7 hE H4 (hO.ext (zS_F hS) hMo) μ σ 0 a hH1 (by omega)) (lw_V q1811 q1813 qs48 q67 q1814) rfl nd_X3_elementNow rfl (z_rv hC (ci := 2) rfl hH1.2.2.1.1 rfl) rfl (Nat.le_of_ble_eq_true rfl) ⟨Nat.le_of_ble_eq_true rfl, Nat.le_of_ble_eq_true rfl⟩ ⟨zfit (k := 1) (z := 200) rfl rfl (by omega), zfit (k := 16) (z := 4000) rfl rfl (by omega)⟩ dX3_ofElement_38) ⟨zad (k := 1) rfl (by omega), zad (k := 16) rfl (by omega)⟩ hS (fun _ z => z.elim) (fun r H13 locs hp hF hS1 => ?_)
        obtain ⟨_, rfl, rfl⟩ := hp
        have hP := zpk hP hF
        have hP : va_P G.1 zCl ([]) H13 := hP
        have hD : va_D (zA (FM G μ σ) H0) ([]) := hD
        have hH1 : HM G s0 μ σ 0 H13 := hH1.ext0 hE hF
        have hS := hS1
        exact z_iret hC hrt hlk hQ hS ⟨zle (z := 200) rfl (by omega), zle (z := 4000) rfl (by omega)⟩ ⟨_, rfl, 0, σ, PoM.same hH1, Or.inl ⟨rfl, rfl, a, 7, ⟨by omega, by omega⟩, ⟨by omega, by omega⟩, rfl⟩⟩ dX3_ofElement_41
      · refine z_top (b := 8) (by omega) ?_
        refine z_go 42 616 (z_runV (As := [.int (iI ((a : Nat) : Int)), .int (iI 8)]) (rest := []) hC hml hl.1 (m_X3_elementNow_8 hE H4 (hO.ext (zS_F hS) hMo) μ σ 0 a hH1 (by omega)) (lw_V q1811 q1813 qs48 q67 q1814) rfl nd_X3_elementNow rfl (z_rv hC (ci := 2) rfl hH1.2.2.1.1 rfl) rfl (Nat.le_of_ble_eq_true rfl) ⟨Nat.le_of_ble_eq_true rfl, Nat.le_of_ble_eq_true rfl⟩ ⟨zfit (k := 42) (z := 200) rfl rfl (by omega), zfit (k := 616) (z := 4000) rfl rfl (by omega)⟩ dX3_ofElement_38) ⟨zad (k := 42) rfl (by omega), zad (k := 616) rfl (by omega)⟩ hS (fun _ z => z.elim) (fun r H14 locs hp hF hS1 => ?_)
        obtain ⟨_, rfl, rfl⟩ := hp
        have hP := zpk hP hF
        have hP : va_P G.1 zCl ([]) H14 := hP
        have hD : va_D (zA (FM G μ σ) H0) ([]) := hD
        have hH1 : HM G s0 μ σ 0 H14 := hH1.ext0 hE hF
        have hS := hS1
        exact z_iret hC hrt hlk hQ hS ⟨zle (z := 200) rfl (by omega), zle (z := 4000) rfl (by omega)⟩ ⟨_, rfl, 0, σ, PoM.same hH1, Or.inl ⟨rfl, rfl, a, 8, ⟨by omega, by omega⟩, ⟨by omega, by omega⟩, rfl⟩⟩ dX3_ofElement_41
      · refine z_top (b := 9) (by omega) ?_
        refine z_go 42 616 (z_runV (As := [.int (iI ((a : Nat) : Int)), .int (iI 9)]) (rest := []) hC hml hl.1 (m_X3_elementNow_9 hE H4 (hO.ext (zS_F hS) hMo) μ σ 0 a hH1 (by omega)) (lw_V q1811 q1813 qs48 q67 q1814) rfl nd_X3_elementNow rfl (z_rv hC (ci := 2) rfl hH1.2.2.1.1 rfl) rfl (Nat.le_of_ble_eq_true rfl) ⟨Nat.le_of_ble_eq_true rfl, Nat.le_of_ble_eq_true rfl⟩ ⟨zfit (k := 42) (z := 200) rfl rfl (by omega), zfit (k := 616) (z := 4000) rfl rfl (by omega)⟩ dX3_ofElement_38) ⟨zad (k := 42) rfl (by omega), zad (k := 616) rfl (by omega)⟩ hS (fun _ z => z.elim) (fun r H15 locs hp hF hS1 => ?_)
        obtain ⟨_, rfl, rfl⟩ := hp
        have hP := zpk hP hF
        have hP : va_P G.1 zCl ([]) H15 := hP
        have hD : va_D (zA (FM G μ σ) H0) ([]) := hD
        have hH1 : HM G s0 μ σ 0 H15 := hH1.ext0 hE hF
        have hS := hS1
        exact z_iret hC hrt hlk hQ hS ⟨zle (z := 200) rfl (by omega), zle (z := 4000) rfl (by omega)⟩ ⟨_, rfl, 0, σ, PoM.same hH1, Or.inl ⟨rfl, rfl, a, 9, ⟨by omega, by omega⟩, ⟨by omega, by omega⟩, rfl⟩⟩ dX3_ofElement_41
    · refine lv_aload_n hx hb dX3_ofElement_29 rfl (lv_at hl 0 rfl) ?_
      refine lv_iconst (v := iI 2) hx hb dX3_ofElement_30 rfl ?_
      have hHb := hH1
      refine z_go 0 0 (z_runV (As := [.int (iI 2)]) (rest := []) hC hml hl.1 (m_X3_no hE H4 (hO.ext (zS_F hS) hMo) μ σ 0 2 hHb) (lw_V q1520 q1522 qs29 q67 q1523) rfl nd_X3_no rfl (z_rv hC (ci := 2) rfl hHb.2.2.1.1 rfl) rfl (Nat.le_of_ble_eq_true rfl) ⟨Nat.le_of_ble_eq_true rfl, Nat.le_of_ble_eq_true rfl⟩ ⟨zfit (k := 0) (z := 200) rfl rfl (by omega), zfit (k := 0) (z := 4000) rfl rfl (by omega)⟩ dX3_ofElement_31) ⟨zad (k := 0) rfl (by omega), zad (k := 0) rfl (by omega)⟩ hS (fun z hz => Or.inl (hz ▸ FM.in hE hh.sep (domM0 0 (by omega)) (by simp [rAm]))) (fun r H16 locs hp hF hS1 => ?_)
      obtain ⟨_, rfl, rfl, hx9⟩ := hp
      have hP : va_P G.1 zCl [] H16 := va_nil
      have hD : va_D (zA (FM G μ σ) H0) [] := va_nilD
      have hP : va_P G.1 zCl ([]) H16 := hP
      have hD : va_D (zA (FM G μ σ) H0) ([]) := hD
      have hS := hS1
      have hH9 : HM G s0 μ σ ((2 : Nat) : Int) H16 := HM.thr hE hHb hF hx9
      exact z_iret hC hrt hlk hQ hS ⟨zle (z := 200) rfl (by omega), zle (z := 4000) rfl (by omega)⟩ ⟨_, rfl, 2, σ, PoM.same hH9, Or.inr ⟨by decide, rfl, by decide, Or.inr ⟨rfl, inE_n (by omega), fun z9 => by have h9 := hfl2.2.mpr z9; omega⟩⟩⟩ dX3_ofElement_34
  · refine lv_aload_n hx hb dX3_ofElement_13 rfl (lv_at hl 0 rfl) ?_
    refine lv_iconst (v := iI 1) hx hb dX3_ofElement_14 rfl ?_
    have hHb := hH1
    refine z_go 0 0 (z_runV (As := [.int (iI 1)]) (rest := []) hC hml hl.1 (m_X3_no hE H2 (hO.ext (zS_F hS) hMo) μ σ 0 1 hHb) (lw_V q1520 q1522 qs29 q67 q1523) rfl nd_X3_no rfl (z_rv hC (ci := 2) rfl hHb.2.2.1.1 rfl) rfl (Nat.le_of_ble_eq_true rfl) ⟨Nat.le_of_ble_eq_true rfl, Nat.le_of_ble_eq_true rfl⟩ ⟨zfit (k := 0) (z := 200) rfl rfl (by omega), zfit (k := 0) (z := 4000) rfl rfl (by omega)⟩ dX3_ofElement_15) ⟨zad (k := 0) rfl (by omega), zad (k := 0) rfl (by omega)⟩ hS (fun z hz => Or.inl (hz ▸ FM.in hE hh.sep (domM0 0 (by omega)) (by simp [rAm]))) (fun r H17 locs hp hF hS1 => ?_)
    obtain ⟨_, rfl, rfl, hx9⟩ := hp
    have hP : va_P G.1 zCl [] H17 := va_nil
    have hD : va_D (zA (FM G μ σ) H0) [] := va_nilD
    have hP : va_P G.1 zCl ([]) H17 := hP
    have hD : va_D (zA (FM G μ σ) H0) ([]) := hD
    have hS := hS1
    have hH9 : HM G s0 μ σ ((1 : Nat) : Int) H17 := HM.thr hE hHb hF hx9
    exact z_iret hC hrt hlk hQ hS ⟨zle (z := 200) rfl (by omega), zle (z := 4000) rfl (by omega)⟩ ⟨_, rfl, 1, σ, PoM.same hH9, Or.inr ⟨by decide, rfl, by decide, Or.inl ⟨rfl, fun z9 => by have h9 := hfl2.2.mpr (z9); omega⟩⟩⟩ dX3_ofElement_18

abbrev rm_m_X3_at : Room := { frames := 4, cells := 0, slots := 0, locals := 85 }
set_option maxHeartbeats 4000000 in
theorem m_X3_at {l : Launch} {s0 : State} {G : zG} (hE : zE l s0 G) (H0 : Heap) (hO : zO s0 H0) (μ : Ro → Nat) (σ : St) (th : Int) (i u : Int) (hh : HM G s0 μ σ th H0) (hi : zi i ∧ zi u) : zM l s0 yX3_at cX3_at 3 (some FieldType.int) rm_m_X3_at [.ref (μ (0, 0, 0)), .int (iI i), .int (iI u)] H0 (FM G μ σ) (HPM G s0 H0 μ σ [IOB] ((fun y σ' => σ' = σ ∧ (∃ a c : Nat, (i = a ∧ a < St_ne σ) ∧ (u = c ∧ c < St_n σ (St_ea σ a)) ∧ y = St_ev σ a c))) ((fun E => X1e σ i (0 ≤ u ∧ u < (St_n σ (St_ea σ i.toNat) : Nat)) E))) := by
  refine z_met hE (by decide +kernel) (Nat.le_of_ble_eq_true rfl) ?_
  intro pp ee ss mm args below meth cd Q ls hC hml hrt hlk hnm hH hQ hS hl
  have hx := hC.x
  have hb := hC.b
  have hl : lv_has ls 3 [(0, .ref (μ (0, 0, 0))), (1, .int (iI i)), (2, .int (iI u))] := hl
  have hP : va_P G.1 zCl [] H0 := va_nil
  have hD : va_D (zA (FM G μ σ) H0) [] := va_nilD
  have hMo : ∀ z, (FM G μ σ) z → s0.heap.size ≤ z := fun z hz => FM.ge hh.sep hz
  have hH1 := hh
  obtain ⟨hp, hna, hal, hne9, hel9, hmr9⟩ := id hh.ok
  have hp7 : 0 < St_p σ ∧ St_p σ ≤ 7 := by rcases hp with h | h | h <;> rw [h] <;> decide
  have hP : va_P G.1 zCl [((μ (0, 0, 0)), zOb 2 [.int (iI th), .int (iI (St_p σ)), .int (iI ((St_kn σ : Nat) : Int)), .ref (μ (1, 0, 0)), .ref (μ (3, 0, 0))])] H0 := zP1 hh.2.2.1.1
  have hD : va_D (zA (FM G μ σ) H0) [((μ (0, 0, 0)), zOb 2 [.int (iI th), .int (iI (St_p σ)), .int (iI ((St_kn σ : Nat) : Int)), .ref (μ (1, 0, 0)), .ref (μ (3, 0, 0))])] := zD1 (Or.inl (FM.in hE hh.sep (domM0 0 (by omega)) (by simp [rAm])))
  refine lv_aload_n hx hb dX3_at_0 rfl (lv_at hl 0 rfl) ?_
  refine lv_iconst (v := iI 0) hx hb dX3_at_1 rfl ?_
  refine z_putO hC hP hD hS 0 (k := 0) rfl rfl in_X3 tyX3_ok nmX3 (by decide) q1495 (fun _ h => h) rfl rfl rfl rfl (Nat.le_of_ble_eq_true rfl) (ws' := [((μ (0, 0, 0)), zOb 2 [.int (iI 0), .int (iI (St_p σ)), .int (iI ((St_kn σ : Nat) : Int)), .ref (μ (1, 0, 0)), .ref (μ (3, 0, 0))])]) rfl dX3_at_2 (fun H1 locs hP hD hS hZ1 hZ2 => ?_)
  have hH1 : HM G s0 μ σ 0 H1 := HM.thr hE hH1 (zF.one hZ1 hZ2) (hP 0 _ rfl)
  have hP : va_P G.1 zCl [] H1 := va_nil
  have hD : va_D (zA (FM G μ σ) H0) [] := va_nilD
  refine lv_aload_n hx hb dX3_at_5 rfl (lv_at hl 0 rfl) ?_
  refine lv_iload_n hx hb dX3_at_6 rfl (lv_at hl 1 rfl) ?_
  refine z_go 0 0 (z_runV (As := [.int (iI i)]) (rest := []) hC hml hl.1 (m_X3_isElement hE H1 (hO.ext (zS_F hS) hMo) μ σ 0 i hH1 hi.1) (lw_V q1650 q1652 qs35 q67 q1653) rfl nd_X3_isElement rfl (z_rv hC (ci := 2) rfl hH1.2.2.1.1 rfl) rfl (Nat.le_of_ble_eq_true rfl) ⟨Nat.le_of_ble_eq_true rfl, Nat.le_of_ble_eq_true rfl⟩ ⟨zfit (k := 0) (z := 0) rfl rfl (by omega), zfit (k := 0) (z := 0) rfl rfl (by omega)⟩ dX3_at_7) ⟨zad (k := 0) rfl (by omega), zad (k := 0) rfl (by omega)⟩ hS (fun _ z => z.elim) (fun r H2 locs hp hF hS1 => ?_)
  obtain ⟨_, rfl, rfl⟩ := hp
  have hP := zpk hP hF
  have hP : va_P G.1 zCl ([]) H2 := hP
  have hD : va_D (zA (FM G μ σ) H0) ([]) := hD
  have hH1 : HM G s0 μ σ 0 H2 := hH1.ext0 hE hF
  have hS := hS1
  obtain ⟨fl, hfl, hfl2⟩ : ∃ fl : Nat, fl ≤ 1 ∧ (if 0 ≤ i ∧ i < (((St_ne σ) : Nat) : Int) then (1 : Int) else 0) = fl ∧ (fl = 1 ↔ 0 ≤ i ∧ i < (((St_ne σ) : Nat) : Int)) := by by_cases h : 0 ≤ i ∧ i < (((St_ne σ) : Nat) : Int); exact ⟨1, by decide, by rw [if_pos h]; rfl, ⟨fun _ => h, fun _ => rfl⟩⟩; exact ⟨0, by decide, by rw [if_neg h]; rfl, ⟨fun z => absurd z (by decide), fun z => absurd z h⟩⟩
  refine z_top (b := ((fl : Nat) : Int)) (hfl2.1) ?_
  refine z_zeq (tgt := 29) hx hb dX3_at_10 (by decide) (by omega) (fun c3 => ?_) (fun c3 => ?_)
  · refine lv_aload_n hx hb dX3_at_29 rfl (lv_at hl 0 rfl) ?_
    refine lv_iconst (v := iI 1) hx hb dX3_at_30 rfl ?_
    have hHb := hH1
    refine z_go 0 0 (z_runV (As := [.int (iI 1)]) (rest := []) hC hml hl.1 (m_X3_no hE H2 (hO.ext (zS_F hS) hMo) μ σ 0 1 hHb) (lw_V q1520 q1522 qs29 q67 q1523) rfl nd_X3_no rfl (z_rv hC (ci := 2) rfl hHb.2.2.1.1 rfl) rfl (Nat.le_of_ble_eq_true rfl) ⟨Nat.le_of_ble_eq_true rfl, Nat.le_of_ble_eq_true rfl⟩ ⟨zfit (k := 0) (z := 0) rfl rfl (by omega), zfit (k := 0) (z := 0) rfl rfl (by omega)⟩ dX3_at_31) ⟨zad (k := 0) rfl (by omega), zad (k := 0) rfl (by omega)⟩ hS (fun z hz => Or.inl (hz ▸ FM.in hE hh.sep (domM0 0 (by omega)) (by simp [rAm]))) (fun r H4 locs hp hF hS1 => ?_)
    obtain ⟨_, rfl, rfl, hx9⟩ := hp
    have hP : va_P G.1 zCl [] H4 := va_nil
    have hD : va_D (zA (FM G μ σ) H0) [] := va_nilD
    have hP : va_P G.1 zCl ([]) H4 := hP
    have hD : va_D (zA (FM G μ σ) H0) ([]) := hD
    have hS := hS1
    have hH9 : HM G s0 μ σ ((1 : Nat) : Int) H4 := HM.thr hE hHb hF hx9
    exact z_iret hC hrt hlk hQ hS ⟨zle (z := 0) rfl (by omega), zle (z := 0) rfl (by omega)⟩ ⟨_, rfl, 1, σ, PoM.same hH9, Or.inr ⟨by decide, rfl, by decide, Or.inl ⟨rfl, fun z9 => by have h9 := hfl2.2.mpr (z9); omega⟩⟩⟩ dX3_at_34
  · have hok9 := hfl2.2.mp (by omega)
    obtain ⟨a, rfl⟩ : ∃ a : Nat, i = a := ⟨i.toNat, by omega⟩
    have ha9 : a < St_ne σ := by omega
    have hRa := (hH1.el (j := a) (by omega)).2
    have hVa := hH1.row (j := a) (by omega)
    refine lv_iload_n hx hb dX3_at_13 rfl (lv_at hl 2 rfl) ?_
    refine lv_iconst (v := iI 0) hx hb dX3_at_14 rfl ?_
    refine lv_aload_n hx hb dX3_at_15 rfl (lv_at hl 0 rfl) ?_
    refine lv_iload_n hx hb dX3_at_16 rfl (lv_at hl 1 rfl) ?_
    refine z_go 0 0 (z_runV (As := [.int (iI ((a : Nat) : Int))]) (rest := [.int (iI 0), .int (iI u)]) hC hml hl.1 (m_X3_row hE H2 (hO.ext (zS_F hS) hMo) μ σ 0 a hH1 (by omega)) (lw_V q1654 q1656 qs36 q67 q1657) rfl nd_X3_row rfl (z_rv hC (ci := 2) rfl hH1.2.2.1.1 rfl) rfl (Nat.le_of_ble_eq_true rfl) ⟨Nat.le_of_ble_eq_true rfl, Nat.le_of_ble_eq_true rfl⟩ ⟨zfit (k := 0) (z := 0) rfl rfl (by omega), zfit (k := 0) (z := 0) rfl rfl (by omega)⟩ dX3_at_17) ⟨zad (k := 0) rfl (by omega), zad (k := 0) rfl (by omega)⟩ hS (fun _ z => z.elim) (fun r H5 locs hp hF hS1 => ?_)
    obtain ⟨_, rfl, rfl⟩ := hp
    have hP := zpk hP hF
    have hP : va_P G.1 zCl ([]) H5 := hP
    have hD : va_D (zA (FM G μ σ) H0) ([]) := hD
    have hH1 : HM G s0 μ σ 0 H5 := hH1.ext0 hE hF
    have hS := hS1
    have hRa := (hH1.el (j := a) (by omega)).2
    have hVa := hH1.row (j := a) (by omega)
    have hnn := hH1.n (hH1.ea (j := a) (by omega))
    refine z_alen hC 0 hRa rfl (y := ((St_n σ (St_ea σ a) : Nat) : Int)) rfl dX3_at_20 ?_
    refine lv_iconst (v := iI 1) hx hb dX3_at_21 rfl ?_
    refine z_sub hx hb (z := ((St_n σ (St_ea σ a) : Nat) : Int) - 1) dX3_at_22 rfl ?_
    refine z_go 0 0 (z_runS (As := [.int (iI u), .int (iI 0), .int (iI (((St_n σ (St_ea σ a) : Nat) : Int) - 1))]) (rest := []) hC hml hl.1 (m_X3_in hE H5 (hO.ext (zS_F hS) hMo) (0) ((((St_n σ (St_ea σ a) : Nat) : Int) - 1)) (u) ⟨by omega, by omega, by omega⟩) (lw_S q1536 q1537 q67 q1538) nd_X3_in rfl rfl (Nat.le_of_ble_eq_true rfl) ⟨Nat.le_of_ble_eq_true rfl, Nat.le_of_ble_eq_true rfl⟩ ⟨zfit (k := 0) (z := 0) rfl rfl (by omega), zfit (k := 0) (z := 0) rfl rfl (by omega)⟩ dX3_at_23) ⟨zad (k := 0) rfl (by omega), zad (k := 0) rfl (by omega)⟩ hS (fun _ z => z.elim) (fun r H6 locs hp hF hS1 => ?_)
    obtain ⟨_, rfl, rfl⟩ := hp
    have hP := zpk hP hF
    have hP : va_P G.1 zCl ([]) H6 := hP
    have hD : va_D (zA (FM G μ σ) H0) ([]) := hD
    have hH1 : HM G s0 μ σ 0 H6 := hH1.ext0 hE hF
    have hS := hS1
    obtain ⟨fl, hfl, hfl2⟩ : ∃ fl : Nat, fl ≤ 1 ∧ (if 0 ≤ u ∧ u ≤ (((St_n σ (St_ea σ a) : Nat) : Int) - 1) then (1 : Int) else 0) = fl ∧ (fl = 1 ↔ 0 ≤ u ∧ u ≤ (((St_n σ (St_ea σ a) : Nat) : Int) - 1)) := by by_cases h : 0 ≤ u ∧ u ≤ (((St_n σ (St_ea σ a) : Nat) : Int) - 1); exact ⟨1, by decide, by rw [if_pos h]; rfl, ⟨fun _ => h, fun _ => rfl⟩⟩; exact ⟨0, by decide, by rw [if_neg h]; rfl, ⟨fun z => absurd z (by decide), fun z => absurd z h⟩⟩
    refine z_top (b := ((fl : Nat) : Int)) (hfl2.1) ?_
    refine z_zne (tgt := 35) hx hb dX3_at_26 (by decide) (by omega) (fun c7 => ?_) (fun c7 => ?_)
    · have hrg : 0 ≤ u ∧ u ≤ (((St_n σ (St_ea σ a) : Nat) : Int) - 1) := hfl2.2.mp (by omega)
      obtain ⟨c, rfl⟩ : ∃ c : Nat, u = c := ⟨u.toNat, by omega⟩
      refine lv_aload_n hx hb dX3_at_35 rfl (lv_at hl 0 rfl) ?_
      refine lv_iload_n hx hb dX3_at_36 rfl (lv_at hl 1 rfl) ?_
      refine z_go 0 0 (z_runV (As := [.int (iI ((a : Nat) : Int))]) (rest := []) hC hml hl.1 (m_X3_row hE H6 (hO.ext (zS_F hS) hMo) μ σ 0 a hH1 (by omega)) (lw_V q1654 q1656 qs36 q67 q1657) rfl nd_X3_row rfl (z_rv hC (ci := 2) rfl hH1.2.2.1.1 rfl) rfl (Nat.le_of_ble_eq_true rfl) ⟨Nat.le_of_ble_eq_true rfl, Nat.le_of_ble_eq_true rfl⟩ ⟨zfit (k := 0) (z := 0) rfl rfl (by omega), zfit (k := 0) (z := 0) rfl rfl (by omega)⟩ dX3_at_37) ⟨zad (k := 0) rfl (by omega), zad (k := 0) rfl (by omega)⟩ hS (fun _ z => z.elim) (fun r H8 locs hp hF hS1 => ?_)
      obtain ⟨_, rfl, rfl⟩ := hp
      have hP := zpk hP hF
      have hP : va_P G.1 zCl ([]) H8 := hP
      have hD : va_D (zA (FM G μ σ) H0) ([]) := hD
      have hH1 : HM G s0 μ σ 0 H8 := hH1.ext0 hE hF
      have hS := hS1
      have hRa := (hH1.el (j := a) (by omega)).2
      have hVa := hH1.row (j := a) (by omega)
      refine lv_iload_n hx hb dX3_at_40 rfl (lv_at hl 2 rfl) ?_
      refine z_iald hC hRa (k := c) rfl (by omega) (y := (St_ev σ a) c) rfl dX3_at_41 ?_
      exact z_iret hC hrt hlk hQ hS ⟨zle (z := 0) rfl (by omega), zle (z := 0) rfl (by omega)⟩ ⟨_, rfl, 0, σ, PoM.same hH1, Or.inl ⟨rfl, rfl, a, c, ⟨by omega, by omega⟩, ⟨by omega, by omega⟩, rfl⟩⟩ dX3_at_42
    · refine lv_aload_n hx hb dX3_at_29 rfl (lv_at hl 0 rfl) ?_
      refine lv_iconst (v := iI 1) hx hb dX3_at_30 rfl ?_
      have hHb := hH1
      refine z_go 0 0 (z_runV (As := [.int (iI 1)]) (rest := []) hC hml hl.1 (m_X3_no hE H6 (hO.ext (zS_F hS) hMo) μ σ 0 1 hHb) (lw_V q1520 q1522 qs29 q67 q1523) rfl nd_X3_no rfl (z_rv hC (ci := 2) rfl hHb.2.2.1.1 rfl) rfl (Nat.le_of_ble_eq_true rfl) ⟨Nat.le_of_ble_eq_true rfl, Nat.le_of_ble_eq_true rfl⟩ ⟨zfit (k := 0) (z := 0) rfl rfl (by omega), zfit (k := 0) (z := 0) rfl rfl (by omega)⟩ dX3_at_31) ⟨zad (k := 0) rfl (by omega), zad (k := 0) rfl (by omega)⟩ hS (fun z hz => Or.inl (hz ▸ FM.in hE hh.sep (domM0 0 (by omega)) (by simp [rAm]))) (fun r H9 locs hp hF hS1 => ?_)
      obtain ⟨_, rfl, rfl, hx9⟩ := hp
      have hP : va_P G.1 zCl [] H9 := va_nil
      have hD : va_D (zA (FM G μ σ) H0) [] := va_nilD
      have hP : va_P G.1 zCl ([]) H9 := hP
      have hD : va_D (zA (FM G μ σ) H0) ([]) := hD
      have hS := hS1
      have hH9 : HM G s0 μ σ ((1 : Nat) : Int) H9 := HM.thr hE hHb hF hx9
      exact z_iret hC hrt hlk hQ hS ⟨zle (z := 0) rfl (by omega), zle (z := 0) rfl (by omega)⟩ ⟨_, rfl, 1, σ, PoM.same hH9, Or.inr ⟨by decide, rfl, by decide, Or.inr ⟨rfl, inE_n (by omega), fun z9 => by have z9 : 0 ≤ u ∧ u < (St_n σ (St_ea σ a) : Nat) := z9; have h9 := hfl2.2.mpr ⟨z9.1, by omega⟩; omega⟩⟩⟩ dX3_at_34

