/-! THE MODEL CHANGES -/
set_option maxRecDepth 100000
section HMN
variable {l : Launch} {G : zG} {s0 : State} {μ : Ro → Nat} {σ : St} {th th0 : Int} {H H0 H1 : Heap}
theorem stNew_domM {k : Nat} {a : Ro} (h : dmMo (stNew σ k) a) : dmMo σ a ∨ a = (13, St_ne σ, 0) ∨ a = (14, St_ne σ, 0) := by
  obtain ⟨κ, i, j⟩ := a
  rcases h with h | h | h | ⟨h1, h2, h3⟩ | h
  · exact Or.inl (Or.inl h)
  · exact Or.inl (Or.inr (Or.inl h))
  · exact Or.inl (Or.inr (Or.inr (Or.inl h)))
  · have h2 : i < St_ne σ + 1 := h2
    have h3 : j = 0 := h3
    have h1 : κ = 13 ∨ κ = 14 := h1
    by_cases e : i = St_ne σ
    · subst e; subst h3
      right
      rcases h1 with rfl | rfl
      · exact Or.inl rfl
      · exact Or.inr rfl
    · exact Or.inl (Or.inr (Or.inr (Or.inr (Or.inl ⟨h1, by show i < St_ne σ; omega, h3⟩))))
  · exact Or.inl (Or.inr (Or.inr (Or.inr (Or.inr h))))
theorem HM.newel {k q r arr1 : Nat} {md : Int} (hE : zE l s0 G) (hO : zO s0 H0) (hh : HM G s0 μ σ th0 H0) (h : HM G s0 μ σ th H) (hF : zF (fun z => z = μ (3, 0, 0) ∨ (z = μ (4, 0, 0) ∧ μ (4, 0, 0) ≠ G.2 12)) H H1)
    (hk : k < St_na σ) (hn : St_ne σ < 10) (hq : H0.size ≤ q) (hr : H0.size ≤ r) (ha : (arr1 = μ (4, 0, 0) ∧ μ (4, 0, 0) ≠ G.2 12) ∨ H0.size ≤ arr1)
    (hL : zLs G (μ (3, 0, 0)) (St_ne σ + 1) (va_up (fun j => μ (13, j, 0)) (St_ne σ) q) arr1 md H1) (h13 : zAt G q (zOb 7 [.int (iI (k : Int)), .ref r]) H1) (h14 : zAt G r (zI G (St_n σ k) (fun _ => 0)) H1) : PoM G s0 H0 μ σ (stNew σ k) th H1 := by
  have hlt := hh.lt hE hO
  have har := hL.arr (by omega)
  have n1 : q ≠ arr1 := z_noArr hE (ci := 7) (t := 3) rfl h13 rfl har
  have n2 : r ≠ arr1 := z_noAr2 h14 har
  have n3 : q ≠ r := z_noArr hE (ci := 7) (t := 0) rfl h13 rfl h14
  have hs := sepM.grow (ρ' := roN μ (St_ne σ) arr1 q r) (σ' := stNew σ k) h.2.1 hlt hO.1 (fun a hd => ?_) (fun a b hda hdb hna hab => ?_)
  · have r0 := h.rest (S := fun a => a = (3, 0, 0) ∨ a = (4, 0, 0)) hE hF (fun a ha h12 e => e.elim (fun e => Or.inl (h.2.1.one ha (domM0 3 (by omega)) h12 e)) (fun e => Or.inr (h.2.1.one ha (domM0 4 (by omega)) h12 e.1)))
    have z : ∀ a i j : Nat, a ≠ 3 → a ≠ 4 → ¬ (((a, i, j) : Ro) = (3, 0, 0) ∨ ((a, i, j) : Ro) = (4, 0, 0)) := fun a i j h3 h4 e => e.elim (fun e => h3 (by cases e; rfl)) (fun e => h4 (by cases e; rfl))
    have old : ∀ a, dmMo σ a → a ≠ (4, 0, 0) → roN μ (St_ne σ) arr1 q r a = μ a := fun a hd h4 => roN_o h4 (fun e => by subst e; rcases hd with d | d | d | d | d <;> simp at d) (fun e => by subst e; rcases hd with d | d | d | d | d <;> simp at d)
    have r' := r0.tr (μ' := roN μ (St_ne σ) arr1 q r) (fun a hd hr _ => old a hd (fun y => hr (by subst y; simp [rAm]))) (fun a hd hs => old a hd (fun y => hs (Or.inr y))) (fun j hj _ => z _ _ _ (by omega) (by omega))
    refine ⟨roN μ (St_ne σ) arr1 q r, ⟨stNew_ok h.1 hk hn, hs.1, ⟨r'.1 (z _ _ _ (by omega) (by omega)), r'.2.1 (z _ _ _ (by omega) (by omega)) (z _ _ _ (by omega) (by omega)), ⟨md, ?_⟩⟩, fun k2 hk2 => r'.alg hk2 (fun a i h6 _ _ => z _ _ _ (by omega) (by omega)), fun j hj => ?_⟩, old _ (domM0 0 (by omega)) (fun y => by cases y), hs.2⟩
    · rw [old _ (domM0 3 (by omega)) (fun y => by cases y), roN_4]
      refine hL.congr (fun j hj => ?_)
      by_cases e : j = St_ne σ
      · subst e; rw [va_up_self, roN_13]
      · rw [va_up_ne _ _ e, old _ (domME 13 j (Or.inl rfl) (by omega)) (fun y => by cases y)]
    · have hj : j < St_ne σ + 1 := hj
      unfold elM
      by_cases e : j = St_ne σ
      · subst e
        rw [stNew_ea0, stNew_ev0, roN_13, roN_14]
        exact ⟨h13, h14⟩
      · rw [stNew_ea (by omega), stNew_ev (by omega)]
        have r7 := r'.2.2.2.2 j (by omega)
        exact ⟨r7.1 (z _ _ _ (by omega) (by omega)), r7.2 (z _ _ _ (by omega) (by omega))⟩
  · rcases stNew_domM hd with d | d | d
    · by_cases e : a = (4, 0, 0)
      · subst e
        rw [roN_4]
        rcases ha with e | e
        · exact Or.inl ⟨d, e.1⟩
        · exact Or.inr (Or.inl e)
      · exact Or.inl ⟨d, roN_o e (fun e => by subst e; rcases d with d | d | d | d | d <;> simp at d) (fun e => by subst e; rcases d with d | d | d | d | d <;> simp at d)⟩
    · subst d; rw [roN_13]; exact Or.inr (Or.inl hq)
    · subst d; rw [roN_14]; exact Or.inr (Or.inl hr)
  · have key : ∀ a, dmMo (stNew σ k) a → H0.size ≤ roN μ (St_ne σ) arr1 q r a → (a = (4, 0, 0) ∧ roN μ (St_ne σ) arr1 q r a = arr1) ∨ (a = (13, St_ne σ, 0) ∧ roN μ (St_ne σ) arr1 q r a = q) ∨ (a = (14, St_ne σ, 0) ∧ roN μ (St_ne σ) arr1 q r a = r) := by
      intro a hd hna
      by_cases e : a = (4, 0, 0)
      · subst e; exact Or.inl ⟨rfl, roN_4⟩
      · by_cases e2 : a = (13, St_ne σ, 0)
        · subst e2; exact Or.inr (Or.inl ⟨rfl, roN_13⟩)
        · by_cases e3 : a = (14, St_ne σ, 0)
          · subst e3; exact Or.inr (Or.inr ⟨rfl, roN_14⟩)
          · rw [roN_o e e2 e3] at hna
            rcases stNew_domM hd with d | d | d
            · have := hlt a d
              omega
            · exact absurd d e2
            · exact absurd d e3
    rcases key a hda hna with ⟨e1, f1⟩ | ⟨e1, f1⟩ | ⟨e1, f1⟩ <;> rcases key b hdb (hab ▸ hna) with ⟨e2, f2⟩ | ⟨e2, f2⟩ | ⟨e2, f2⟩ <;> first | (rw [e1, e2]; done) | (exfalso; rw [f1, f2] at hab; first | exact n1 hab | exact n1 hab.symm | exact n2 hab | exact n2 hab.symm | exact n3 hab | exact n3 hab.symm)
/-! a new algebra -/
theorem stAl_domM {kd : Nat} {a : Ro} (h : dmMo (stAl σ kd) a) : dmMo σ a ∨ (a.2.1 = St_na σ ∧ (a.1 = 6 ∨ a.1 = 7 ∨ a.1 = 9 ∨ a.1 = 10 ∨ a.1 = 11 ∨ a.1 = 12) ∧ a.2.2 = 0) := by
  obtain ⟨κ, i, j⟩ := a
  rcases h with h | ⟨h1, h2, h3⟩ | ⟨h1, h2, h3⟩ | h | ⟨h1, h2, h3⟩
  · exact Or.inl (Or.inl h)
  · have h1 : κ = 6 ∨ κ = 7 ∨ κ = 9 ∨ κ = 10 ∨ κ = 11 := h1
    have h2 : i < St_na σ + 1 := h2
    have h3 : j = 0 := h3
    by_cases e : i = St_na σ
    · exact Or.inr ⟨e, by show κ = 6 ∨ κ = 7 ∨ κ = 9 ∨ κ = 10 ∨ κ = 11 ∨ κ = 12; omega, h3⟩
    · exact Or.inl (Or.inr (Or.inl ⟨h1, by show i < St_na σ; omega, h3⟩))
  · have h1 : κ = 12 := h1
    have h2 : i < St_na σ + 1 := h2
    have h3 : j < St_n (stAl σ kd) i := h3
    by_cases e : i = St_na σ
    · subst e
      have e2 : St_n (stAl σ kd) (St_na σ) = 1 := by
        show 2 ^ ((stAl σ kd).2.2.1 (St_na σ)).2.1 = 1
        rw [stAl_k0]; rfl
      rw [e2] at h3
      exact Or.inr ⟨rfl, by show κ = 6 ∨ κ = 7 ∨ κ = 9 ∨ κ = 10 ∨ κ = 11 ∨ κ = 12; omega, by show j = 0; omega⟩
    · have e2 : St_n (stAl σ kd) i = St_n σ i := by
        show 2 ^ St_d (stAl σ kd) i = _
        rw [stAl_d e]
      rw [e2] at h3
      exact Or.inl (Or.inr (Or.inr (Or.inl ⟨h1, by show i < St_na σ; omega, h3⟩)))
  · exact Or.inl (Or.inr (Or.inr (Or.inr (Or.inl h))))
  · have h1 : κ = 15 := h1
    have h2 : i < St_na σ + 1 := h2
    have h3 : j < St_nm (stAl σ kd) i := h3
    by_cases e : i = St_na σ
    · subst e
      have e2 : St_nm (stAl σ kd) (St_na σ) = 0 := by
        show ((stAl σ kd).2.2.2.2.2.1 (St_na σ)).1 = 0
        rw [stAl_m0]
      rw [e2] at h3
      omega
    · rw [stAl_nm e] at h3
      exact Or.inl (Or.inr (Or.inr (Or.inr (Or.inr ⟨h1, by show i < St_na σ; omega, h3⟩))))
theorem HM.newal {kd g dl ml so r0 arr1 : Nat} {md m2 : Int} (hE : zE l s0 G) (hO : zO s0 H0) (hh : HM G s0 μ σ th0 H0) (h : HM G s0 μ σ th H) (hF : zF (fun z => z = μ (1, 0, 0) ∨ (z = μ (2, 0, 0) ∧ μ (2, 0, 0) ≠ G.2 12)) H H1)
    (hkd : kd < 2) (hn : St_na σ < 4) (hnew : H0.size ≤ g ∧ H0.size ≤ dl ∧ H0.size ≤ ml ∧ H0.size ≤ so ∧ H0.size ≤ r0) (ha : (arr1 = μ (2, 0, 0) ∧ μ (2, 0, 0) ≠ G.2 12) ∨ H0.size ≤ arr1)
    (hap : g ≠ dl ∧ g ≠ ml ∧ g ≠ so ∧ g ≠ r0 ∧ dl ≠ ml ∧ dl ≠ so ∧ dl ≠ r0 ∧ ml ≠ so ∧ ml ≠ r0 ∧ so ≠ r0 ∧ arr1 ≠ g ∧ arr1 ≠ dl ∧ arr1 ≠ ml ∧ arr1 ≠ so ∧ arr1 ≠ r0)
    (hL : zLs G (μ (1, 0, 0)) (St_na σ + 1) (va_up (fun k => μ (6, k, 0)) (St_na σ) g) arr1 md H1)
    (h6 : zAt G g (zOb 5 [.int (iI (kd : Int)), .ref dl, .ref so, .int (iI 0), .ref ml, .ref (μ (0, 0, 0))]) H1) (h7 : zAt G dl (zI G 4 (fun _ => 0)) H1) (h9 : zAt G ml (zOb 8 [.int (iI m2), .ref (G.2 12), .int (iI 0)]) H1) (h11 : zAt G so (zII G 1 (fun _ => some r0)) H1) (h12 : zAt G r0 (zI G 1 (fun _ => 1)) H1) : PoM G s0 H0 μ σ (stAl σ kd) th H1 := by
  have hlt := hh.lt hE hO
  have h12' := hG12 hE
  have hs := sepM.grow (ρ' := roA G μ (St_na σ) arr1 g dl ml so r0) (σ' := stAl σ kd) h.2.1 hlt hO.1 (fun a hd => ?_) (fun a b hda hdb hna hab => ?_)
  · have r0' := h.rest (S := fun a => a = (1, 0, 0) ∨ a = (2, 0, 0)) hE hF (fun a ha h12 e => e.elim (fun e => Or.inl (h.2.1.one ha (domM0 1 (by omega)) h12 e)) (fun e => Or.inr (h.2.1.one ha (domM0 2 (by omega)) h12 e.1)))
    have z : ∀ a i j : Nat, a ≠ 1 → a ≠ 2 → ¬ (((a, i, j) : Ro) = (1, 0, 0) ∨ ((a, i, j) : Ro) = (2, 0, 0)) := fun a i j h3 h4 e => e.elim (fun e => h3 (by cases e; rfl)) (fun e => h4 (by cases e; rfl))
    have old : ∀ a, dmMo σ a → a ≠ (2, 0, 0) → roA G μ (St_na σ) arr1 g dl ml so r0 a = μ a := fun a hd h2 => roA_o h2 (fun z => by rcases hd with d | d | d | d | d <;> omega)
    have r := r0'.tr (μ' := roA G μ (St_na σ) arr1 g dl ml so r0) (fun a hd hr _ => old a hd (fun z => hr (by subst z; simp [rAm]))) (fun a hd hs => old a hd (fun z => hs (Or.inr z))) (fun j hj _ => z _ _ _ (by omega) (by omega))
    have e0 : ∀ a : Nat, a ≤ 4 → a ≠ 2 → roA G μ (St_na σ) arr1 g dl ml so r0 (a, 0, 0) = μ (a, 0, 0) := fun a h1 h2 => old _ (domM0 a h1) (fun z => h2 (by cases z; rfl))
    obtain ⟨r1, -, r3, r5, r6⟩ := id r
    refine ⟨roA G μ (St_na σ) arr1 g dl ml so r0, ⟨stAl_ok h.1 hkd hn, hs.1, ⟨r1 (z _ _ _ (by omega) (by omega)), ⟨md, ?_⟩, r3 (z _ _ _ (by omega) (by omega)) (z _ _ _ (by omega) (by omega))⟩, fun k hk => ?_, fun j hj => ?_⟩, e0 0 (by omega) (by omega), hs.2⟩
    · rw [e0 1 (by omega) (by omega), roA_2]
      refine hL.congr (fun k hk => ?_)
      by_cases e : k = St_na σ
      · subst e; rw [va_up_self, roA_n (by omega), if_pos rfl]
      · rw [va_up_ne _ _ e, old _ (domMA 6 k (by omega) (by omega)) (fun z => by cases z)]
    · have hk : k < St_na σ + 1 := hk
      by_cases e : k = St_na σ
      · subst e
        unfold algM dvA St_sg St_n St_d St_dv St_kd St_nm St_mv
        rw [stAl_k0, stAl_m0, roA_n (by omega), roA_n (by omega), roA_n (by omega), roA_n (by omega), roA_n (by omega), e0 0 (by omega) (by omega)]
        refine ⟨h6, zI_congr h7 (fun i _ => (if_neg (Nat.not_lt_zero i)).symm), ⟨m2, h9, Or.inl ⟨rfl, rfl⟩⟩, zII_congr h11 (fun i hi => ?_), fun i hi => ?_, fun i hi => absurd hi (Nat.not_lt_zero i)⟩
        · rw [roA_n (by omega)]; rfl
        · rw [roA_n (by omega)]
          exact zI_congr h12 (fun j hj => (sgT_0 h.1.1 kd _ i j).symm)
      · rw [algM_congr (σ' := stAl σ kd) (σ := σ) rfl (stAl_k e) (stAl_m e)]
        exact r.alg (by omega) (fun a i h6 _ _ => z _ _ _ (by omega) (by omega))
    · have hj : j < St_ne σ := hj
      have e : St_ea σ j ≠ St_na σ := by have := h.ea hj; omega
      have e2 : St_n (stAl σ kd) (St_ea (stAl σ kd) j) = St_n σ (St_ea σ j) := by
        show 2 ^ St_d (stAl σ kd) (St_ea σ j) = _
        rw [stAl_d e]
      unfold elM
      rw [e2]
      exact ⟨(r6 j hj).1 (z _ _ _ (by omega) (by omega)), (r6 j hj).2 (z _ _ _ (by omega) (by omega))⟩
  · by_cases e : a = (2, 0, 0)
    · subst e
      rw [roA_2]
      rcases ha with w | w
      · exact Or.inl ⟨domM0 2 (by omega), w.1⟩
      · exact Or.inr (Or.inl w)
    · rcases stAl_domM hd with d | ⟨d1, d2, d4⟩
      · exact Or.inl ⟨d, roA_o e (fun z => by rcases d with d | d | d | d | d <;> omega)⟩
      · obtain ⟨κ, i, j⟩ := a
        have d1 : i = St_na σ := d1
        subst d1
        rcases d2 with d2 | d2 | d2 | d2 | d2 | d2 <;> (simp only at d2; subst d2; rw [roA_n (by omega)])
        · exact Or.inr (Or.inl hnew.1)
        · exact Or.inr (Or.inl hnew.2.1)
        · exact Or.inr (Or.inl hnew.2.2.1)
        · exact Or.inr (Or.inr ⟨rfl, by simp [rAm]⟩)
        · exact Or.inr (Or.inl hnew.2.2.2.1)
        · exact Or.inr (Or.inl hnew.2.2.2.2)
  · have key : ∀ a, dmMo (stAl σ kd) a → H0.size ≤ roA G μ (St_na σ) arr1 g dl ml so r0 a → (a = (2, 0, 0) ∧ roA G μ (St_na σ) arr1 g dl ml so r0 a = arr1) ∨ (a = (6, St_na σ, 0) ∧ roA G μ (St_na σ) arr1 g dl ml so r0 a = g) ∨ (a = (7, St_na σ, 0) ∧ roA G μ (St_na σ) arr1 g dl ml so r0 a = dl) ∨ (a = (9, St_na σ, 0) ∧ roA G μ (St_na σ) arr1 g dl ml so r0 a = ml) ∨ (a = (11, St_na σ, 0) ∧ roA G μ (St_na σ) arr1 g dl ml so r0 a = so) ∨ (a = (12, St_na σ, 0) ∧ roA G μ (St_na σ) arr1 g dl ml so r0 a = r0) := by
      intro a hd hna
      by_cases e : a = (2, 0, 0)
      · subst e; exact Or.inl ⟨rfl, roA_2⟩
      · rcases stAl_domM hd with d | ⟨d1, d2, d4⟩
        · rw [roA_o e (fun z => by rcases d with d | d | d | d | d <;> omega)] at hna
          have := hlt a d
          omega
        · obtain ⟨κ, i, j⟩ := a
          have d1 : i = St_na σ := d1
          have d4 : j = 0 := d4
          subst d1; subst d4
          have hz := hO.1
          rcases d2 with d2 | d2 | d2 | d2 | d2 | d2 <;> (simp only at d2; subst d2; rw [roA_n (by omega)] at hna ⊢)
          · exact Or.inr (Or.inl ⟨rfl, rfl⟩)
          · exact Or.inr (Or.inr (Or.inl ⟨rfl, rfl⟩))
          · exact Or.inr (Or.inr (Or.inr (Or.inl ⟨rfl, rfl⟩)))
          · have hna : H0.size ≤ G.2 12 := hna
            omega
          · exact Or.inr (Or.inr (Or.inr (Or.inr (Or.inl ⟨rfl, rfl⟩))))
          · exact Or.inr (Or.inr (Or.inr (Or.inr (Or.inr ⟨rfl, rfl⟩))))
    obtain ⟨n1, n2, n3, n4, n5, n6, n7, n8, n9, n10, n11, n12, n13, n14, n15⟩ := hap
    rcases key a hda hna with ⟨e1, f1⟩ | ⟨e1, f1⟩ | ⟨e1, f1⟩ | ⟨e1, f1⟩ | ⟨e1, f1⟩ | ⟨e1, f1⟩ <;> rcases key b hdb (hab ▸ hna) with ⟨e2, f2⟩ | ⟨e2, f2⟩ | ⟨e2, f2⟩ | ⟨e2, f2⟩ | ⟨e2, f2⟩ | ⟨e2, f2⟩ <;> first | (rw [e1, e2]; done) | (exfalso; rw [f1, f2] at hab; omega)
/-! a dial -/
theorem stDi_domM {k : Nat} {z : Int} {a : Ro} (h : dmMo (stDi σ k z) a) : dmMo σ a ∨ (a.1 = 12 ∧ a.2.1 = k) := by
  obtain ⟨κ, i, j⟩ := a
  rcases h with h | h | ⟨h1, h2, h3⟩ | h | h
  · exact Or.inl (Or.inl h)
  · exact Or.inl (Or.inr (Or.inl h))
  · have h1 : κ = 12 := h1
    have h3 : j < St_n (stDi σ k z) i := h3
    by_cases e : i = k
    · exact Or.inr ⟨h1, e⟩
    · have e2 : St_n (stDi σ k z) i = St_n σ i := by
        show 2 ^ St_d (stDi σ k z) i = _
        rw [stDi_d e]
      rw [e2] at h3
      exact Or.inl (Or.inr (Or.inr (Or.inl ⟨h1, h2, h3⟩)))
  · exact Or.inl (Or.inr (Or.inr (Or.inr (Or.inl h))))
  · exact Or.inl (Or.inr (Or.inr (Or.inr (Or.inr h))))
def roDM (ρ : Ro → Nat) (k q : Nat) : Ro → Nat := fun a => if a = (11, k, 0) then q else if a.1 = 12 ∧ a.2.1 = k then q + 1 + a.2.2 else ρ a
theorem roDM_o {ρ : Ro → Nat} {k q : Nat} {a : Ro} (h : ¬ (a.2.1 = k ∧ (a.1 = 11 ∨ a.1 = 12))) : roDM ρ k q a = ρ a := by
  unfold roDM
  rw [if_neg (fun z => h (by subst z; simp)), if_neg (fun z => h ⟨z.2, Or.inr z.1⟩)]
theorem roDM_11 {ρ : Ro → Nat} {k q : Nat} : roDM ρ k q (11, k, 0) = q := if_pos rfl
theorem roDM_12 {ρ : Ro → Nat} {k q : Nat} (i : Nat) : roDM ρ k q (12, k, i) = q + 1 + i := by unfold roDM; rw [if_neg (fun z => by cases z), if_pos ⟨rfl, rfl⟩]
theorem HM.dial {k q : Nat} {z : Int} (hE : zE l s0 G) (hO : zO s0 H0) (hh : HM G s0 μ σ th0 H0) (h : HM G s0 μ σ th H) (hF : zF (fun a => a = μ (6, k, 0) ∨ a = μ (7, k, 0)) H H1)
    (hk : k < St_na σ) (hd : St_d σ k < 4) (hz : 0 < z ∧ z < St_p σ) (hne : ∀ j, j < St_ne σ → St_ea σ j ≠ k) (hq : H0.size ≤ q)
    (h6 : zAt G (μ (6, k, 0)) (zOb 5 [.int (iI (St_kd σ k : Int)), .ref (μ (7, k, 0)), .ref q, .int (iI ((St_d σ k + 1 : Nat) : Int)), .ref (μ (9, k, 0)), .ref (μ (0, 0, 0))]) H1) (h7 : zAt G (μ (7, k, 0)) (zI G 4 (va_up (dvA σ k) (St_d σ k) z)) H1)
    (h11 : zAt G q (zII G (2 ^ (St_d σ k + 1)) (fun i => some (q + 1 + i))) H1) (h12r : ∀ i, i < 2 ^ (St_d σ k + 1) → zAt G (q + 1 + i) (zI G (2 ^ (St_d σ k + 1)) (sgT (St_p σ) (St_kd σ k) (St_d σ k + 1) (va_up (St_dv σ k) (St_d σ k) z) i)) H1) : PoM G s0 H0 μ σ (stDi σ k z) th H1 := by
  have hlt := hh.lt hE hO
  have ek0 : St_n (stDi σ k z) k = 2 ^ (St_d σ k + 1) := by
    show 2 ^ ((stDi σ k z).2.2.1 k).2.1 = _
    rw [stDi_k0]
  have hnm : St_nm σ k = 0 := by
    rcases Nat.eq_zero_or_pos (St_nm σ k) with w | w
    · exact w
    · obtain ⟨i, hi, hi2⟩ := (h.1.2.2.2.2.2 k hk).2.1 (by omega)
      exact absurd hi2 (hne i hi)
  have hs := sepM.grow (ρ' := roDM μ k q) (σ' := stDi σ k z) h.2.1 hlt hO.1 (fun a hda => ?_) (fun a b hda hdb hna hab => ?_)
  · have r := h.rest (S := fun a => a.2.1 = k ∧ (a.1 = 6 ∨ a.1 = 7)) hE hF (fun a hd9 n12 e => by
      rcases e with e | e
      · have := h.2.1.one hd9 (domMA 6 k (by omega) hk) n12 e; subst this; simp
      · have := h.2.1.one hd9 (domMA 7 k (by omega) hk) n12 e; subst this; simp)
    obtain ⟨r1, r2, r3, r5, r6⟩ := id r
    have o : ∀ a i j : Nat, ¬ (i = k ∧ (a = 11 ∨ a = 12)) → roDM μ k q (a, i, j) = μ (a, i, j) := fun a i j h => roDM_o h
    have u : ∀ a i j : Nat, ¬ (i = k ∧ (a = 6 ∨ a = 7)) → ¬ (((a, i, j) : Ro).2.1 = k ∧ (((a, i, j) : Ro).1 = 6 ∨ ((a, i, j) : Ro).1 = 7)) := fun a i j h => h
    refine ⟨roDM μ k q, ⟨stDi_ok h.1 hk hd hz hne, hs.1, ⟨?_, ?_, ?_⟩, fun k2 hk2 => ?_, fun j hj => ?_⟩, o 0 0 0 (by omega), hs.2⟩
    · rw [o 0 0 0 (by omega), o 1 0 0 (by omega), o 3 0 0 (by omega)]
      exact r1 (u _ _ _ (by omega))
    · obtain ⟨m1, hL⟩ := r2 (u _ _ _ (by omega)) (u _ _ _ (by omega))
      rw [o 1 0 0 (by omega), o 2 0 0 (by omega)]
      exact ⟨m1, hL.congr (fun i _ => (o 6 i 0 (by omega)).symm)⟩
    · obtain ⟨m1, hL⟩ := r3 (u _ _ _ (by omega)) (u _ _ _ (by omega))
      rw [o 3 0 0 (by omega), o 4 0 0 (by omega)]
      exact ⟨m1, hL.congr (fun i _ => (o 13 i 0 (by omega)).symm)⟩
    · have hk2 : k2 < St_na σ := hk2
      by_cases e : k2 = k
      · subst e
        obtain ⟨a1, a2, a3, a4, a5, a6⟩ := r5 k2 hk2
        unfold algM dvA St_sg St_n St_d St_dv St_kd
        rw [stDi_k0, o 6 k2 0 (by omega), o 7 k2 0 (by omega), o 9 k2 0 (by omega), roDM_11, o 0 0 0 (by omega), o 10 k2 0 (by omega)]
        refine ⟨h6, zI_congr h7 (fun i _ => ?_), ?_, zII_congr h11 (fun i hi => by rw [roDM_12]), fun i hi => ?_, fun i hi => ?_⟩
        · show va_up (dvA σ k2) (St_d σ k2) z i = if i < St_d σ k2 + 1 then va_up (St_dv σ k2) (St_d σ k2) z i else 0
          by_cases e : i = St_d σ k2
          · rw [e, va_up_self, va_up_self, if_pos (by omega)]
          · rw [va_up_ne _ _ e, va_up_ne _ _ e]
            unfold dvA
            by_cases e2 : i < St_d σ k2
            · rw [if_pos e2, if_pos (by omega)]
            · rw [if_neg e2, if_neg (by omega)]
        · obtain ⟨m4, hL⟩ := a3 (u _ _ _ (by omega)) (u _ _ _ (by omega))
          exact ⟨m4, hL.congr (fun i _ => (o 15 k2 i (by omega)).symm)⟩
        · rw [roDM_12]
          exact h12r i hi
        · have hi : i < St_nm σ k2 := hi
          omega
      · rw [algM_congr (σ' := stDi σ k z) (σ := σ) rfl (stDi_k e) rfl]
        obtain ⟨a1, a2, a3, a4, a5, a6⟩ := r5 k2 hk2
        unfold algM
        rw [o 6 k2 0 (by omega), o 7 k2 0 (by omega), o 9 k2 0 (by omega), o 11 k2 0 (by omega), o 0 0 0 (by omega), o 10 k2 0 (by omega)]
        refine ⟨a1 (u _ _ _ (by omega)), a2 (u _ _ _ (by omega)), ?_, zII_congr (a4 (u _ _ _ (by omega))) (fun i hi => by rw [o 12 k2 i (by omega)]), fun i hi => ?_, fun i hi => ?_⟩
        · obtain ⟨m4, hL⟩ := a3 (u _ _ _ (by omega)) (u _ _ _ (by omega))
          exact ⟨m4, hL.congr (fun i _ => (o 15 k2 i (by omega)).symm)⟩
        · rw [o 12 k2 i (by omega)]; exact a5 i hi (u _ _ _ (by omega))
        · rw [o 15 k2 i (by omega)]; exact a6 i hi (u _ _ _ (by omega))
    · have hj : j < St_ne σ := hj
      have e2 : St_n (stDi σ k z) (St_ea (stDi σ k z) j) = St_n σ (St_ea σ j) := by
        show 2 ^ St_d (stDi σ k z) (St_ea σ j) = _
        rw [stDi_d (hne j hj)]
      unfold elM
      rw [e2, o 13 j 0 (by omega), o 14 j 0 (by omega)]
      exact ⟨(r6 j hj).1 (u _ _ _ (by omega)), (r6 j hj).2 (u _ _ _ (by omega))⟩
  · rcases stDi_domM hda with d | ⟨d1, d2⟩
    · by_cases e : a.2.1 = k ∧ (a.1 = 11 ∨ a.1 = 12)
      · obtain ⟨κ, i, j⟩ := a
        obtain ⟨e1, e2⟩ := e
        have e1 : i = k := e1
        have e2 : κ = 11 ∨ κ = 12 := e2
        subst e1
        rcases e2 with rfl | rfl
        · have hj : j = 0 := by rcases d with d | d | d | d | d <;> simp at d; exact d.2
          subst hj
          rw [roDM_11]; exact Or.inr (Or.inl hq)
        · rw [roDM_12]; exact Or.inr (Or.inl (by omega))
      · exact Or.inl ⟨d, roDM_o e⟩
    · obtain ⟨κ, i, j⟩ := a
      have d1 : κ = 12 := d1
      have d2 : i = k := d2
      subst d1; subst d2
      rw [roDM_12]; exact Or.inr (Or.inl (by omega))
  · have key : ∀ a, dmMo (stDi σ k z) a → H0.size ≤ roDM μ k q a → (a = (11, k, 0) ∧ roDM μ k q a = q + 0) ∨ ∃ i, a = (12, k, i) ∧ roDM μ k q a = q + (i + 1) := by
      intro a hd hna
      by_cases e : a.2.1 = k ∧ (a.1 = 11 ∨ a.1 = 12)
      · obtain ⟨κ, i, j⟩ := a
        obtain ⟨e1, e2⟩ := e
        have e1 : i = k := e1
        have e2 : κ = 11 ∨ κ = 12 := e2
        subst e1
        rcases e2 with rfl | rfl
        · have hj : j = 0 := by rcases hd with d | d | d | d | d <;> simp at d; exact d.2
          subst hj
          exact Or.inl ⟨rfl, roDM_11⟩
        · exact Or.inr ⟨j, rfl, by rw [roDM_12]; omega⟩
      · rw [roDM_o e] at hna
        rcases stDi_domM hd with d | ⟨d1, d2⟩
        · have := hlt a d
          omega
        · exact absurd ⟨d2, Or.inr d1⟩ e
    rcases key a hda hna with ⟨e1, f1⟩ | ⟨i, e1, f1⟩ <;> rcases key b hdb (hab ▸ hna) with ⟨e2, f2⟩ | ⟨i2, e2, f2⟩
    · rw [e1, e2]
    · rw [f1, f2] at hab; omega
    · rw [f1, f2] at hab; omega
    · rw [f1, f2] at hab
      have : i = i2 := by omega
      rw [e1, e2, this]
/-! mirrors -/
theorem stMi_domM {k : Nat} {v : Nat → Int} {a : Ro} (h : dmMo (stMi σ k v) a) : dmMo σ a ∨ a = (15, k, St_nm σ k) := by
  obtain ⟨κ, i, j⟩ := a
  rcases h with h | h | h | h | ⟨h1, h2, h3⟩
  · exact Or.inl (Or.inl h)
  · exact Or.inl (Or.inr (Or.inl h))
  · exact Or.inl (Or.inr (Or.inr (Or.inl h)))
  · exact Or.inl (Or.inr (Or.inr (Or.inr (Or.inl h))))
  · have h1 : κ = 15 := h1
    have h3 : j < ((stMi σ k v).2.2.2.2.2.1 i).1 := h3
    by_cases e : i = k
    · subst e
      rw [stMi_m0] at h3
      have h3 : j < St_nm σ i + 1 := h3
      by_cases e2 : j = St_nm σ i
      · subst e2; subst h1; exact Or.inr rfl
      · exact Or.inl (Or.inr (Or.inr (Or.inr (Or.inr ⟨h1, h2, by show j < St_nm σ i; omega⟩))))
    · rw [stMi_m e] at h3
      exact Or.inl (Or.inr (Or.inr (Or.inr (Or.inr ⟨h1, h2, h3⟩))))
def roMM (ρ : Ro → Nat) (k n arr q : Nat) : Ro → Nat := fun a => if a = (10, k, 0) then arr else if a = (15, k, n) then q else ρ a
theorem roMM_o {ρ : Ro → Nat} {k n arr q : Nat} {a : Ro} (h1 : a ≠ (10, k, 0)) (h2 : a ≠ (15, k, n)) : roMM ρ k n arr q a = ρ a := by unfold roMM; rw [if_neg h1, if_neg h2]
theorem roMM_10 {ρ : Ro → Nat} {k n arr q : Nat} : roMM ρ k n arr q (10, k, 0) = arr := if_pos rfl
theorem roMM_15 {ρ : Ro → Nat} {k n arr q : Nat} : roMM ρ k n arr q (15, k, n) = q := by unfold roMM; rw [if_neg (fun z => by cases z), if_pos rfl]
theorem HM.newmi {k q arr1 : Nat} {md : Int} {v : Nat → Int} (hE : zE l s0 G) (hO : zO s0 H0) (hh : HM G s0 μ σ th0 H0) (h : HM G s0 μ σ th H) (hF : zF (fun z => z = μ (9, k, 0) ∨ (z = μ (10, k, 0) ∧ μ (10, k, 0) ≠ G.2 12)) H H1)
    (hk : k < St_na σ) (hn : St_nm σ k < 6) (he : ∃ j, j < St_ne σ ∧ St_ea σ j = k) (hv : rw_ok (St_p σ) (St_n σ k) v) (hsq : 0 < sqV (St_p σ) (St_n σ k) (St_kd σ k) (St_sg σ k) v) (hq : H0.size ≤ q) (ha : (arr1 = μ (10, k, 0) ∧ μ (10, k, 0) ≠ G.2 12) ∨ H0.size ≤ arr1)
    (hL : zLs G (μ (9, k, 0)) (St_nm σ k + 1) (va_up (fun i => μ (15, k, i)) (St_nm σ k) q) arr1 md H1) (hel : zAt G q (zI G (St_n σ k) v) H1) : PoM G s0 H0 μ σ (stMi σ k v) th H1 := by
  have hlt := hh.lt hE hO
  have har := hL.arr (by omega)
  have n1 : q ≠ arr1 := z_noAr2 hel har
  have hs := sepM.grow (ρ' := roMM μ k (St_nm σ k) arr1 q) (σ' := stMi σ k v) h.2.1 hlt hO.1 (fun a hd => ?_) (fun a b hda hdb hna hab => ?_)
  · have r0' := h.rest (S := fun a => a = (9, k, 0) ∨ a = (10, k, 0)) hE hF (fun a ha h12 e => by
      rcases e with e | e
      · exact Or.inl (h.2.1.one ha (domMA 9 k (by omega) hk) h12 e)
      · exact Or.inr (h.2.1.one ha (domMA 10 k (by omega) hk) h12 e.1))
    have z : ∀ a i j : Nat, ¬ (i = k ∧ (a = 9 ∨ a = 10)) → ¬ (((a, i, j) : Ro) = (9, k, 0) ∨ ((a, i, j) : Ro) = (10, k, 0)) := fun a i j h4 e => by
      rcases e with e | e <;> cases e <;> omega
    have old : ∀ a, dmMo σ a → a ≠ (10, k, 0) → roMM μ k (St_nm σ k) arr1 q a = μ a := fun a hd h2 => roMM_o h2 (fun z => by
      subst z; rcases hd with d | d | d | d | d <;> simp at d)
    have r' := r0'.tr (μ' := roMM μ k (St_nm σ k) arr1 q) (fun a hd hr _ => old a hd (fun z => hr (by subst z; simp [rAm]))) (fun a hd hs => old a hd (fun z => hs (Or.inr z))) (fun j hj _ => z _ _ _ (by omega))
    obtain ⟨r1, r2, r3, r5, r6⟩ := id r'
    refine ⟨roMM μ k (St_nm σ k) arr1 q, ⟨stMi_ok h.1 hn he hv hsq, hs.1, ⟨r1 (z _ _ _ (by omega)), r2 (z _ _ _ (by omega)) (z _ _ _ (by omega)), r3 (z _ _ _ (by omega)) (z _ _ _ (by omega))⟩, fun k2 hk2 => ?_, fun j hj => ⟨(r6 j hj).1 (z _ _ _ (by omega)), (r6 j hj).2 (z _ _ _ (by omega))⟩⟩, old _ (domM0 0 (by omega)) (fun z => by cases z), hs.2⟩
    have hk2 : k2 < St_na σ := hk2
    by_cases e : k2 = k
    · subst e
      obtain ⟨a1, a2, -, a4, a5, a6⟩ := r5 k2 hk2
      unfold algM St_nm St_mv
      rw [stMi_m0]
      refine ⟨a1 (z _ _ _ (by omega)), a2 (z _ _ _ (by omega)), ⟨md, ?_⟩, a4 (z _ _ _ (by omega)), fun i hi => a5 i hi (z _ _ _ (by omega)), fun i hi => ?_⟩
      · rw [old _ (domMA 9 k2 (by omega) hk) (fun z => by cases z), roMM_10]
        refine hL.congr (fun i hi => ?_)
        by_cases e : i = St_nm σ k2
        · subst e; rw [va_up_self, roMM_15]
        · rw [va_up_ne _ _ e, old _ (domMM k2 i hk (by omega)) (fun z => by cases z)]
      · have hi : i < St_nm σ k2 + 1 := hi
        show zAt G _ (zI G (St_n σ k2) (va_up (St_mv σ k2) (St_nm σ k2) v i)) H1
        by_cases e : i = St_nm σ k2
        · subst e
          rw [va_up_self, roMM_15]
          exact hel
        · rw [va_up_ne _ _ e]
          exact a6 i (by omega) (z _ _ _ (by omega))
    · rw [algM_congr (σ' := stMi σ k v) (σ := σ) rfl rfl (stMi_m e)]
      exact r'.alg hk2 (fun a i h6 _ _ => z _ _ _ (by omega))
  · rcases stMi_domM hd with d | d
    · by_cases e : a = (10, k, 0)
      · subst e
        rw [roMM_10]
        rcases ha with w | w
        · exact Or.inl ⟨d, w.1⟩
        · exact Or.inr (Or.inl w)
      · exact Or.inl ⟨d, roMM_o e (fun z => by subst z; rcases d with d | d | d | d | d <;> simp at d)⟩
    · subst d; rw [roMM_15]; exact Or.inr (Or.inl hq)
  · have key : ∀ a, dmMo (stMi σ k v) a → H0.size ≤ roMM μ k (St_nm σ k) arr1 q a → (a = (10, k, 0) ∧ roMM μ k (St_nm σ k) arr1 q a = arr1) ∨ (a = (15, k, St_nm σ k) ∧ roMM μ k (St_nm σ k) arr1 q a = q) := by
      intro a hd hna
      by_cases e : a = (10, k, 0)
      · subst e; exact Or.inl ⟨rfl, roMM_10⟩
      · by_cases e2 : a = (15, k, St_nm σ k)
        · subst e2; exact Or.inr ⟨rfl, roMM_15⟩
        · rw [roMM_o e e2] at hna
          rcases stMi_domM hd with d | d
          · have := hlt a d
            omega
          · exact absurd d e2
    rcases key a hda hna with ⟨e1, f1⟩ | ⟨e1, f1⟩ <;> rcases key b hdb (hab ▸ hna) with ⟨e2, f2⟩ | ⟨e2, f2⟩ <;> first | (rw [e1, e2]; done) | (exfalso; rw [f1, f2] at hab; first | exact n1 hab | exact n1 hab.symm)
/-- the last mirror is taken away: n are left -/
def stMn (σ : St) (k n : Nat) : St := (σ.1, σ.2.1, σ.2.2.1, σ.2.2.2.1, σ.2.2.2.2.1, (fun j => if j = k then (n, St_mv σ k) else σ.2.2.2.2.2.1 j), σ.2.2.2.2.2.2)
theorem stMn_m {k n j : Nat} (h : j ≠ k) : (stMn σ k n).2.2.2.2.2.1 j = σ.2.2.2.2.2.1 j := if_neg h
theorem stMn_m0 {k n : Nat} : (stMn σ k n).2.2.2.2.2.1 k = (n, St_mv σ k) := if_pos rfl
theorem stMn_0 {k : Nat} : stMn σ k 0 = stCl σ k := rfl
theorem stMn_self {k : Nat} : stMn σ k (St_nm σ k) = σ := by
  have e : (fun j => if j = k then (St_nm σ k, St_mv σ k) else σ.2.2.2.2.2.1 j) = σ.2.2.2.2.2.1 := by
    funext j
    by_cases h : j = k
    · subst h; rw [if_pos rfl]
    · rw [if_neg h]
  unfold stMn
  rw [e]
theorem stMn_st {k n m : Nat} : stMn (stMn σ k n) k m = stMn σ k m := by
  have e : (fun j => if j = k then (m, St_mv (stMn σ k n) k) else (stMn σ k n).2.2.2.2.2.1 j) = (fun j => if j = k then (m, St_mv σ k) else σ.2.2.2.2.2.1 j) := by
    funext j
    by_cases h : j = k
    · subst h
      rw [if_pos rfl, if_pos rfl]
      unfold St_mv
      rw [stMn_m0]
    · rw [if_neg h, if_neg h, stMn_m h]
  unfold stMn at e ⊢
  simp only at e ⊢
  rw [e]
theorem HM.nomi {k n : Nat} {md : Int} (hE : zE l s0 G) (h : HM G s0 μ σ th H) (hF : zF (fun z => z = μ (9, k, 0) ∨ (z = μ (10, k, 0) ∧ μ (10, k, 0) ≠ G.2 12)) H H1)
    (hk : k < St_na σ) (hn : n ≤ St_nm σ k) (hL : zLs G (μ (9, k, 0)) n (fun i => μ (15, k, i)) (μ (10, k, 0)) md H1) : HM G s0 μ (stMn σ k n) th H1 := by
  have r' := h.rest (S := fun a => a = (9, k, 0) ∨ a = (10, k, 0)) hE hF (fun a ha h12 e => by
    rcases e with e | e
    · exact Or.inl (h.2.1.one ha (domMA 9 k (by omega) hk) h12 e)
    · exact Or.inr (h.2.1.one ha (domMA 10 k (by omega) hk) h12 e.1))
  have z : ∀ a i j : Nat, ¬ (i = k ∧ (a = 9 ∨ a = 10)) → ¬ (((a, i, j) : Ro) = (9, k, 0) ∨ ((a, i, j) : Ro) = (10, k, 0)) := fun a i j h4 e => by
    rcases e with e | e <;> cases e <;> omega
  have dm : ∀ a, dmMo (stMn σ k n) a → dmMo σ a := by
    intro a h
    obtain ⟨κ, i, j⟩ := a
    rcases h with h | h | h | h | ⟨h1, h2, h3⟩
    · exact Or.inl h
    · exact Or.inr (Or.inl h)
    · exact Or.inr (Or.inr (Or.inl h))
    · exact Or.inr (Or.inr (Or.inr (Or.inl h)))
    · have h3 : j < ((stMn σ k n).2.2.2.2.2.1 i).1 := h3
      by_cases e : i = k
      · subst e
        rw [stMn_m0] at h3
        have h3 : j < n := h3
        exact Or.inr (Or.inr (Or.inr (Or.inr ⟨h1, h2, by show j < St_nm σ i; omega⟩)))
      · rw [stMn_m e] at h3
        exact Or.inr (Or.inr (Or.inr (Or.inr ⟨h1, h2, h3⟩)))
  obtain ⟨r1, r2, r3, r5, r6⟩ := id r'
  refine ⟨?_, ⟨fun a ha => h.2.1.1 a (dm a ha), fun a b ha hb => h.2.1.2 a b (dm a ha) (dm b hb)⟩, ⟨r1 (z _ _ _ (by omega)), r2 (z _ _ _ (by omega)) (z _ _ _ (by omega)), r3 (z _ _ _ (by omega)) (z _ _ _ (by omega))⟩, fun k2 hk2 => ?_, fun j hj => ⟨(r6 j hj).1 (z _ _ _ (by omega)), (r6 j hj).2 (z _ _ _ (by omega))⟩⟩
  · obtain ⟨h1, h2, h3, h4, h5, h6⟩ := h.1
    refine ⟨h1, h2, h3, h4, h5, fun j hj => ?_⟩
    by_cases e : j = k
    · subst e
      unfold St_nm St_mv
      rw [stMn_m0]
      have h7 := h6 j hj
      exact ⟨Nat.le_trans hn h7.1, fun z => h7.2.1 (fun y => z (by show n = 0; omega)), fun i hi => h7.2.2 i (Nat.lt_of_lt_of_le hi hn)⟩
    · unfold St_nm St_mv
      rw [stMn_m e]
      exact h6 j hj
  · have hk2 : k2 < St_na σ := hk2
    by_cases e : k2 = k
    · subst e
      obtain ⟨a1, a2, -, a4, a5, a6⟩ := r5 k2 hk2
      unfold algM St_nm St_mv
      rw [stMn_m0]
      exact ⟨a1 (z _ _ _ (by omega)), a2 (z _ _ _ (by omega)), ⟨md, hL⟩, a4 (z _ _ _ (by omega)), fun i hi => a5 i hi (z _ _ _ (by omega)), fun i hi => a6 i (Nat.lt_of_lt_of_le hi hn) (z _ _ _ (by omega))⟩
    · rw [algM_congr (σ' := stMn σ k n) (σ := σ) rfl rfl (stMn_m e)]
      exact r'.alg hk2 (fun a i h6 _ _ => z _ _ _ (by omega))
end HMN
