/-! THE HOUSE CHANGES: a dial; mirrors -/
set_option maxRecDepth 100000
def stDi (σ : St) (k : Nat) (z : Int) : St := (σ.1, σ.2.1, (fun j => if j = k then (St_kd σ k, St_d σ k + 1, va_up (St_dv σ k) (St_d σ k) z) else σ.2.2.1 j), σ.2.2.2.1, σ.2.2.2.2.1, σ.2.2.2.2.2.1, σ.2.2.2.2.2.2)
theorem stDi_k {σ : St} {k j : Nat} {z : Int} (h : j ≠ k) : (stDi σ k z).2.2.1 j = σ.2.2.1 j := if_neg h
theorem stDi_k0 {σ : St} {k : Nat} {z : Int} : (stDi σ k z).2.2.1 k = (St_kd σ k, St_d σ k + 1, va_up (St_dv σ k) (St_d σ k) z) := if_pos rfl
theorem stDi_d {σ : St} {k j : Nat} {z : Int} (h : j ≠ k) : St_d (stDi σ k z) j = St_d σ j := by unfold St_d; rw [stDi_k h]
theorem ecV_0 {σ : St} {k : Nat} : ∀ {n : Nat}, ecV σ k n = 0 → ∀ j, j < n → St_ea σ j ≠ k
  | 0, _, j, hj => absurd hj (Nat.not_lt_zero j)
  | n + 1, h, j, hj => by
    simp only [ecV] at h
    by_cases e : j = n
    · subst e
      intro z
      rw [if_pos z] at h
      omega
    · exact ecV_0 (n := n) (by omega) j (by omega)
theorem stDi_ok {σ : St} {k : Nat} {z : Int} (h : stOk σ) (hk : k < St_na σ) (hd : St_d σ k < 4) (hz : 0 < z ∧ z < St_p σ) (hne : ∀ j, j < St_ne σ → St_ea σ j ≠ k) : stOk (stDi σ k z) := by
  obtain ⟨h1, h2, h3, h4, h5, h6⟩ := h
  refine ⟨h1, h2, fun j hj => ?_, h4, fun j hj => ?_, fun j hj => ?_⟩
  · by_cases e : j = k
    · subst e
      unfold St_kd St_d St_dv
      rw [stDi_k0]
      refine ⟨(h3 j hk).1, hd, fun i hi => ?_⟩
      have hi : i < St_d σ j + 1 := hi
      show 0 < va_up (St_dv σ j) (St_d σ j) z i ∧ va_up (St_dv σ j) (St_d σ j) z i < St_p σ
      by_cases e : i = St_d σ j
      · rw [e, va_up_self]; exact hz
      · rw [va_up_ne _ _ e]; exact (h3 j hk).2.2 i (by omega)
    · unfold St_kd St_d St_dv
      rw [stDi_k e]
      exact h3 j hj
  · have hj : j < St_ne σ := hj
    refine ⟨(h5 j hj).1, ?_⟩
    have e2 : St_n (stDi σ k z) (St_ea (stDi σ k z) j) = St_n σ (St_ea σ j) := by
      show 2 ^ St_d (stDi σ k z) (St_ea σ j) = _
      rw [stDi_d (hne j hj)]
    rw [e2]
    exact (h5 j hj).2
  · have hj : j < St_na σ := hj
    by_cases e : j = k
    · subst e
      have h0 : St_nm σ j = 0 := by
        rcases Nat.eq_zero_or_pos (St_nm σ j) with w | w
        · exact w
        · obtain ⟨i, hi, hi2⟩ := (h6 j hj).2.1 (by omega)
          exact absurd hi2 (hne i hi)
      refine ⟨(h6 j hj).1, (h6 j hj).2.1, fun i hi => ?_⟩
      have hi : i < St_nm σ j := hi
      omega
    · have h7 := h6 j hj
      unfold St_nm St_mv St_sg St_n St_kd St_d St_dv
      rw [stDi_k e]
      exact h7
theorem stDi_dom {σ : St} {k : Nat} {z : Int} {a : Ro} (h : domC (stDi σ k z) a) : domC σ a ∨ (a.1 = 12 ∧ a.2.1 = k) := by
  obtain ⟨κ, i, j⟩ := a
  rcases h with h | h | ⟨h1, h2, h3⟩ | h | h
  · exact Or.inl (Or.inl h)
  · exact Or.inl (Or.inr (Or.inl h))
  · have h1 : κ = 12 := h1
    have h3 : j < St_n (stDi σ k z) i := h3
    by_cases e : i = k
    · exact Or.inr ⟨h1, e⟩
    · have e2 : St_n (stDi σ k z) i = St_n σ i := by
        show 2 ^ St_d (stDi σ k z) i = _
        rw [stDi_d e]
      rw [e2] at h3
      exact Or.inl (Or.inr (Or.inr (Or.inl ⟨h1, h2, h3⟩)))
  · exact Or.inl (Or.inr (Or.inr (Or.inr (Or.inl h))))
  · exact Or.inl (Or.inr (Or.inr (Or.inr (Or.inr h))))
def roD (ρ : Ro → Nat) (k arr q : Nat) : Ro → Nat := fun a => if a = (8, k, 0) then arr else if a = (11, k, 0) then q else if a.1 = 12 ∧ a.2.1 = k then q + 1 + a.2.2 else ρ a
section ROD
variable {ρ : Ro → Nat} {k arr q : Nat}
theorem roD_o {a : Ro} (h : ¬ (a.2.1 = k ∧ (a.1 = 8 ∨ a.1 = 11 ∨ a.1 = 12))) : roD ρ k arr q a = ρ a := by
  unfold roD
  rw [if_neg (fun z => h (by subst z; simp)), if_neg (fun z => h (by subst z; simp)), if_neg (fun z => h ⟨z.2, by omega⟩)]
theorem roD_8 : roD ρ k arr q (8, k, 0) = arr := if_pos rfl
theorem roD_11 : roD ρ k arr q (11, k, 0) = q := by unfold roD; rw [if_neg (fun z => by cases z), if_pos rfl]
theorem roD_12 (i : Nat) : roD ρ k arr q (12, k, i) = q + 1 + i := by unfold roD; rw [if_neg (fun z => by cases z), if_neg (fun z => by cases z), if_pos ⟨rfl, rfl⟩]
end ROD
theorem HC.dial {l : Launch} {G : zG} {s0 : State} {ρ : Ro → Nat} {σ : St} {H0 H H1 : Heap} {k arr1 q : Nat} {z dm : Int} (hE : zE l s0 G) (hO : zO s0 H0) (hh : HC G s0 ρ σ H0) (h : HC G s0 ρ σ H) (hF : zF (fun a => a = ρ (6, k, 0) ∨ a = ρ (7, k, 0) ∨ (a = ρ (8, k, 0) ∧ ρ (8, k, 0) ≠ G.2 12)) H H1)
    (hk : k < St_na σ) (hd : St_d σ k < 4) (hz : 0 < z ∧ z < St_p σ) (hne : ∀ j, j < St_ne σ → St_ea σ j ≠ k) (hq : H0.size ≤ q) (ha : (arr1 = ρ (8, k, 0) ∧ ρ (8, k, 0) ≠ G.2 12) ∨ H0.size ≤ arr1) (h12 : arr1 ≠ G.2 12) (hap : ∀ i, i < 2 ^ (St_d σ k + 1) + 1 → arr1 ≠ q + i)
    (h6 : zAt G (ρ (6, k, 0)) (zOb 4 [.ref (G.2 (10 + St_kd σ k)), .ref (ρ (7, k, 0)), .ref (ρ (9, k, 0)), .ref q, .ref (ρ (0, 0, 0))]) H1)
    (h7 : zAt G (ρ (7, k, 0)) (zOb 8 [.int (iI dm), .ref arr1, .int (iI ((St_d σ k + 1 : Nat) : Int))]) H1) (h8 : zAt G arr1 (zR G 10 (lf (St_d σ k + 1) (va_up (fun i => G.2 (1000 + ((St_dv σ k i).toNat + 128))) (St_d σ k) (G.2 (1000 + (z.toNat + 128)))))) H1)
    (h11 : zAt G q (zII G (2 ^ (St_d σ k + 1)) (fun i => some (q + 1 + i))) H1) (h12r : ∀ i, i < 2 ^ (St_d σ k + 1) → zAt G (q + 1 + i) (zI G (2 ^ (St_d σ k + 1)) (sgT (St_p σ) (St_kd σ k) (St_d σ k + 1) (va_up (St_dv σ k) (St_d σ k) z) i)) H1) : PoC G s0 H0 ρ σ (stDi σ k z) H1 := by
  have hlt := hh.lt hE hO
  have ek0 : St_n (stDi σ k z) k = 2 ^ (St_d σ k + 1) := by
    show 2 ^ ((stDi σ k z).2.2.1 k).2.1 = _
    rw [stDi_k0]
  have hnm : St_nm σ k = 0 := by
    rcases Nat.eq_zero_or_pos (St_nm σ k) with w | w
    · exact w
    · obtain ⟨i, hi, hi2⟩ := (h.1.2.2.2.2.2 k hk).2.1 (by omega)
      exact absurd hi2 (hne i hi)
  have hs := sepC.grow (ρ' := roD ρ k arr1 q) (σ' := stDi σ k z) h.2.1 hlt hO.1 (fun a hda => ?_) (fun a b hda hdb hna hab => ?_)
  · have r := h.rest (S := fun a => a.2.1 = k ∧ 6 ≤ a.1 ∧ a.1 ≤ 12) hE hF (fun a hd9 n12 e => by
      rcases e with e | e | e
      · have := h.2.1.one hE hd9 (domA 6 k (by omega) hk) n12 e; subst this; simp
      · have := h.2.1.one hE hd9 (domA 7 k (by omega) hk) n12 e; subst this; simp
      · have := h.2.1.one hE hd9 (domA 8 k (by omega) hk) n12 e.1; subst this; simp)
    obtain ⟨r1, r2, r3, r4, r5, r6⟩ := r
    have o : ∀ a i j : Nat, ¬ (i = k ∧ (a = 8 ∨ a = 11 ∨ a = 12)) → roD ρ k arr1 q (a, i, j) = ρ (a, i, j) := fun a i j h => roD_o h
    have u : ∀ a i j : Nat, ¬ (i = k ∧ 6 ≤ a ∧ a ≤ 12) → ¬ (((a, i, j) : Ro).2.1 = k ∧ 6 ≤ ((a, i, j) : Ro).1 ∧ ((a, i, j) : Ro).1 ≤ 12) := fun a i j h => h
    have r9 := (h.2.2.2.1 k hk).2.2.1
    refine ⟨roD ρ k arr1 q, ⟨stDi_ok h.1 hk hd hz hne, hs.1, ⟨?_, ?_, ?_, ?_⟩, fun k2 hk2 => ?_, fun j hj => ?_⟩, ⟨o 0 0 0 (by omega), o 5 0 0 (by omega)⟩, hs.2⟩
    · rw [o 0 0 0 (by omega), o 1 0 0 (by omega), o 3 0 0 (by omega), o 5 0 0 (by omega)]
      exact r1 (u _ _ _ (by omega))
    · obtain ⟨m1, hL⟩ := r2 (u _ _ _ (by omega)) (u _ _ _ (by omega))
      rw [o 1 0 0 (by omega), o 2 0 0 (by omega)]
      exact ⟨m1, hL.congr (fun i _ => (o 6 i 0 (by omega)).symm)⟩
    · obtain ⟨m1, hL⟩ := r3 (u _ _ _ (by omega)) (u _ _ _ (by omega))
      rw [o 3 0 0 (by omega), o 4 0 0 (by omega)]
      exact ⟨m1, hL.congr (fun i _ => (o 13 i 0 (by omega)).symm)⟩
    · rw [o 5 0 0 (by omega)]
      exact r4 (u _ _ _ (by omega))
    · have hk2 : k2 < St_na σ := hk2
      by_cases e : k2 = k
      · subst e
        unfold algC St_sg St_n St_d St_dv St_kd
        rw [stDi_k0, o 6 k2 0 (by omega), o 7 k2 0 (by omega), o 9 k2 0 (by omega), roD_11, o 0 0 0 (by omega), roD_8, o 10 k2 0 (by omega)]
        refine ⟨h6, ⟨dm, h7, Or.inr ⟨by show St_d σ k2 + 1 ≤ 10; omega, h12, ?_⟩⟩, ?_, zII_congr h11 (fun i hi => by rw [roD_12]), fun i hi => ?_, fun i hi => ?_⟩
        · have el : lf (St_d σ k2 + 1) (va_up (fun i => G.2 (1000 + ((St_dv σ k2 i).toNat + 128))) (St_d σ k2) (G.2 (1000 + (z.toNat + 128)))) = lf (St_d σ k2 + 1) (fun i => G.2 (1000 + ((va_up (St_dv σ k2) (St_d σ k2) z i).toNat + 128))) := by
            congr 1
            funext i
            unfold va_up
            split <;> rfl
          rw [el] at h8
          exact h8
        · obtain ⟨m4, hL⟩ := r9
          have h6c := (h.2.2.2.1 k2 hk).1
          refine ⟨m4, (hL.ext hF (fun y => ?_) (fun n12 y => ?_)).congr (fun i hi => (o 15 k2 i (by omega)).symm)⟩
          · rcases y with y | y | y
            · have := h.2.1.ne hE (domA 9 k2 (by omega) hk) (domA 6 k2 (by omega) hk) (fun w => by cases w) (by simp); exact this y
            · have := h.2.1.ne hE (domA 9 k2 (by omega) hk) (domA 7 k2 (by omega) hk) (fun w => by cases w) (by simp); exact this y
            · have := h.2.1.ne hE (domA 9 k2 (by omega) hk) (domA 8 k2 (by omega) hk) (fun w => by cases w) (by simp); exact this y.1
          · rcases y with y | y | y
            · have := h.2.1.one hE (domA 10 k2 (by omega) hk) (domA 6 k2 (by omega) hk) n12 y; cases this
            · have := h.2.1.one hE (domA 10 k2 (by omega) hk) (domA 7 k2 (by omega) hk) n12 y; cases this
            · have := h.2.1.one hE (domA 10 k2 (by omega) hk) (domA 8 k2 (by omega) hk) n12 y.1; cases this
        · rw [roD_12]
          exact h12r i hi
        · have hi : i < St_nm σ k2 := hi
          omega
      · rw [algC_congr (σ' := stDi σ k z) (σ := σ) rfl (stDi_k e) rfl]
        obtain ⟨a1, a2, a3, a4, a5, a6⟩ := r5 k2 hk2
        unfold algC
        rw [o 6 k2 0 (by omega), o 7 k2 0 (by omega), o 9 k2 0 (by omega), o 11 k2 0 (by omega), o 0 0 0 (by omega), o 8 k2 0 (by omega), o 10 k2 0 (by omega)]
        refine ⟨a1 (u _ _ _ (by omega)), a2 (u _ _ _ (by omega)) (u _ _ _ (by omega)), ?_, zII_congr (a4 (u _ _ _ (by omega))) (fun i hi => by rw [o 12 k2 i (by omega)]), fun i hi => ?_, fun i hi => ?_⟩
        · obtain ⟨m4, hL⟩ := a3 (u _ _ _ (by omega)) (u _ _ _ (by omega))
          exact ⟨m4, hL.congr (fun i _ => (o 15 k2 i (by omega)).symm)⟩
        · rw [o 12 k2 i (by omega)]; exact a5 i hi (u _ _ _ (by omega))
        · rw [o 15 k2 i (by omega), o 16 k2 i (by omega)]; exact a6 i hi (u _ _ _ (by omega)) (u _ _ _ (by omega))
    · have hj : j < St_ne σ := hj
      have e2 : St_n (stDi σ k z) (St_ea (stDi σ k z) j) = St_n σ (St_ea σ j) := by
        show 2 ^ St_d (stDi σ k z) (St_ea σ j) = _
        rw [stDi_d (hne j hj)]
      rw [e2, o 0 0 0 (by omega), o 6 _ 0 (by omega), o 13 j 0 (by omega), o 14 j 0 (by omega)]
      exact r6 j hj (u _ _ _ (by omega)) (u _ _ _ (by omega))
  · rcases stDi_dom hda with d | ⟨d1, d2⟩
    · by_cases e : a.2.1 = k ∧ (a.1 = 8 ∨ a.1 = 11 ∨ a.1 = 12)
      · obtain ⟨κ, i, j⟩ := a
        obtain ⟨e1, e2⟩ := e
        have e1 : i = k := e1
        have e2 : κ = 8 ∨ κ = 11 ∨ κ = 12 := e2
        subst e1
        rcases e2 with rfl | rfl | rfl
        · have hj : j = 0 := by rcases d with d | d | d | d | d <;> simp at d; exact d.2
          subst hj
          rw [roD_8]
          rcases ha with w | w
          · exact Or.inl ⟨d, w.1⟩
          · exact Or.inr (Or.inl w)
        · have hj : j = 0 := by rcases d with d | d | d | d | d <;> simp at d; exact d.2
          subst hj
          rw [roD_11]; exact Or.inr (Or.inl hq)
        · rw [roD_12]; exact Or.inr (Or.inl (by omega))
      · exact Or.inl ⟨d, roD_o e⟩
    · obtain ⟨κ, i, j⟩ := a
      have d1 : κ = 12 := d1
      have d2 : i = k := d2
      subst d1; subst d2
      rw [roD_12]; exact Or.inr (Or.inl (by omega))
  · have key : ∀ a, domC (stDi σ k z) a → H0.size ≤ roD ρ k arr1 q a → (a = (8, k, 0) ∧ roD ρ k arr1 q a = arr1) ∨ (a = (11, k, 0) ∧ roD ρ k arr1 q a = q + 0) ∨ ∃ i, i < 2 ^ (St_d σ k + 1) ∧ a = (12, k, i) ∧ roD ρ k arr1 q a = q + (i + 1) := by
      intro a hd hna
      by_cases e : a.2.1 = k ∧ (a.1 = 8 ∨ a.1 = 11 ∨ a.1 = 12)
      · obtain ⟨κ, i, j⟩ := a
        obtain ⟨e1, e2⟩ := e
        have e1 : i = k := e1
        have e2 : κ = 8 ∨ κ = 11 ∨ κ = 12 := e2
        subst e1
        rcases e2 with rfl | rfl | rfl
        · have hj : j = 0 := by rcases hd with d | d | d | d | d <;> simp at d; exact d.2
          subst hj
          exact Or.inl ⟨rfl, roD_8⟩
        · have hj : j = 0 := by rcases hd with d | d | d | d | d <;> simp at d; exact d.2
          subst hj
          exact Or.inr (Or.inl ⟨rfl, roD_11⟩)
        · have hj : j < 2 ^ (St_d σ i + 1) := by
            rw [← ek0]
            rcases hd with d | d | d | d | d
            · have := d.1; simp at this
            · have := d.1.2; simp at this
            · exact d.2.2
            · have := d.1; simp at this
            · have := d.1; simp at this
          exact Or.inr (Or.inr ⟨j, hj, rfl, by rw [roD_12]; omega⟩)
      · rw [roD_o e] at hna
        rcases stDi_dom hd with d | ⟨d1, d2⟩
        · have := hlt a d
          omega
        · exact absurd ⟨d2, by omega⟩ e
    rcases key a hda hna with ⟨e1, f1⟩ | ⟨e1, f1⟩ | ⟨i, hi, e1, f1⟩ <;> rcases key b hdb (hab ▸ hna) with ⟨e2, f2⟩ | ⟨e2, f2⟩ | ⟨i2, hi2, e2, f2⟩
    · rw [e1, e2]
    · rw [f1, f2] at hab; exact absurd hab (hap 0 (by omega))
    · rw [f1, f2] at hab; exact absurd hab (hap (i2 + 1) (by omega))
    · rw [f1, f2] at hab; exact absurd hab.symm (hap 0 (by omega))
    · rw [e1, e2]
    · rw [f1, f2] at hab; omega
    · rw [f1, f2] at hab; exact absurd hab.symm (hap (i + 1) (by omega))
    · rw [f1, f2] at hab; omega
    · rw [f1, f2] at hab
      have : i = i2 := by omega
      rw [e1, e2, this]
/-! mirrors -/
def stMi (σ : St) (k : Nat) (v : Nat → Int) : St := (σ.1, σ.2.1, σ.2.2.1, σ.2.2.2.1, σ.2.2.2.2.1, (fun j => if j = k then (St_nm σ k + 1, va_up (St_mv σ k) (St_nm σ k) v) else σ.2.2.2.2.2.1 j), σ.2.2.2.2.2.2)
theorem stMi_m {σ : St} {k j : Nat} {v : Nat → Int} (h : j ≠ k) : (stMi σ k v).2.2.2.2.2.1 j = σ.2.2.2.2.2.1 j := if_neg h
theorem stMi_m0 {σ : St} {k : Nat} {v : Nat → Int} : (stMi σ k v).2.2.2.2.2.1 k = (St_nm σ k + 1, va_up (St_mv σ k) (St_nm σ k) v) := if_pos rfl
theorem stMi_ok {σ : St} {k : Nat} {v : Nat → Int} (h : stOk σ) (hn : St_nm σ k < 6) (he : ∃ j, j < St_ne σ ∧ St_ea σ j = k) (hv : rw_ok (St_p σ) (St_n σ k) v) (hs : 0 < sqV (St_p σ) (St_n σ k) (St_kd σ k) (St_sg σ k) v) : stOk (stMi σ k v) := by
  obtain ⟨h1, h2, h3, h4, h5, h6⟩ := h
  refine ⟨h1, h2, h3, h4, h5, fun j hj => ?_⟩
  by_cases e : j = k
  · subst e
    unfold St_nm St_mv
    rw [stMi_m0]
    refine ⟨by show St_nm σ j + 1 ≤ 6; omega, fun _ => he, fun i hi => ?_⟩
    have hi : i < St_nm σ j + 1 := hi
    show rw_ok (St_p σ) (St_n σ j) (va_up (St_mv σ j) (St_nm σ j) v i) ∧ 0 < sqV (St_p σ) (St_n σ j) (St_kd σ j) (St_sg σ j) (va_up (St_mv σ j) (St_nm σ j) v i)
    by_cases e : i = St_nm σ j
    · rw [e, va_up_self]; exact ⟨hv, hs⟩
    · rw [va_up_ne _ _ e]; exact (h6 j hj).2.2 i (by omega)
  · unfold St_nm St_mv
    rw [stMi_m e]
    exact h6 j hj
theorem stMi_dom {σ : St} {k : Nat} {v : Nat → Int} {a : Ro} (h : domC (stMi σ k v) a) : domC σ a ∨ a = (15, k, St_nm σ k) ∨ a = (16, k, St_nm σ k) := by
  obtain ⟨κ, i, j⟩ := a
  rcases h with h | h | h | h | ⟨h1, h2, h3⟩
  · exact Or.inl (Or.inl h)
  · exact Or.inl (Or.inr (Or.inl h))
  · exact Or.inl (Or.inr (Or.inr (Or.inl h)))
  · exact Or.inl (Or.inr (Or.inr (Or.inr (Or.inl h))))
  · have h1 : κ = 15 ∨ κ = 16 := h1
    have h3 : j < ((stMi σ k v).2.2.2.2.2.1 i).1 := h3
    by_cases e : i = k
    · subst e
      rw [stMi_m0] at h3
      have h3 : j < St_nm σ i + 1 := h3
      by_cases e2 : j = St_nm σ i
      · subst e2
        rcases h1 with rfl | rfl
        · exact Or.inr (Or.inl rfl)
        · exact Or.inr (Or.inr rfl)
      · exact Or.inl (Or.inr (Or.inr (Or.inr (Or.inr ⟨h1, h2, by show j < St_nm σ i; omega⟩))))
    · rw [stMi_m e] at h3
      exact Or.inl (Or.inr (Or.inr (Or.inr (Or.inr ⟨h1, h2, h3⟩))))
def roM (ρ : Ro → Nat) (k n arr q r : Nat) : Ro → Nat := fun a => if a = (10, k, 0) then arr else if a = (15, k, n) then q else if a = (16, k, n) then r else ρ a
theorem roM_o {ρ : Ro → Nat} {k n arr q r : Nat} {a : Ro} (h1 : a ≠ (10, k, 0)) (h2 : a ≠ (15, k, n)) (h3 : a ≠ (16, k, n)) : roM ρ k n arr q r a = ρ a := by unfold roM; rw [if_neg h1, if_neg h2, if_neg h3]
theorem roM_10 {ρ : Ro → Nat} {k n arr q r : Nat} : roM ρ k n arr q r (10, k, 0) = arr := if_pos rfl
theorem roM_15 {ρ : Ro → Nat} {k n arr q r : Nat} : roM ρ k n arr q r (15, k, n) = q := by unfold roM; rw [if_neg (fun z => by cases z), if_pos rfl]
theorem roM_16 {ρ : Ro → Nat} {k n arr q r : Nat} : roM ρ k n arr q r (16, k, n) = r := by unfold roM; rw [if_neg (fun z => by cases z), if_neg (fun z => by cases z), if_pos rfl]
theorem HC.newmi {l : Launch} {G : zG} {s0 : State} {ρ : Ro → Nat} {σ : St} {H0 H H1 : Heap} {k q r arr1 : Nat} {md t : Int} {v : Nat → Int} (hE : zE l s0 G) (hO : zO s0 H0) (hh : HC G s0 ρ σ H0) (h : HC G s0 ρ σ H) (hF : zF (fun z => z = ρ (5, 0, 0) ∨ z = ρ (9, k, 0) ∨ (z = ρ (10, k, 0) ∧ ρ (10, k, 0) ≠ G.2 12)) H H1)
    (hk : k < St_na σ) (hn : St_nm σ k < 6) (he : ∃ j, j < St_ne σ ∧ St_ea σ j = k) (hv : rw_ok (St_p σ) (St_n σ k) v) (hsq : 0 < sqV (St_p σ) (St_n σ k) (St_kd σ k) (St_sg σ k) v) (hq : H0.size ≤ q) (hr : H0.size ≤ r) (ha : (arr1 = ρ (10, k, 0) ∧ ρ (10, k, 0) ≠ G.2 12) ∨ H0.size ≤ arr1)
    (hdo : zAt G (ρ (5, 0, 0)) (zOb 1 [.int (iI t)]) H1) (hL : zLs G (ρ (9, k, 0)) (St_nm σ k + 1) (va_up (fun i => ρ (15, k, i)) (St_nm σ k) q) arr1 md H1) (hel : zEl G (ρ (0, 0, 0)) (ρ (6, k, 0)) q r (St_n σ k) v H1) : PoC G s0 H0 ρ σ (stMi σ k v) H1 := by
  have hlt := hh.lt hE hO
  have har := hL.arr (by omega)
  have n1 : q ≠ arr1 := z_noArr hE (ci := 6) (t := 3) rfl hel.1 rfl har
  have n2 : r ≠ arr1 := z_noAr2 hel.2 har
  have n3 : q ≠ r := z_noArr hE (ci := 6) (t := 0) rfl hel.1 rfl hel.2
  have hs := sepC.grow (ρ' := roM ρ k (St_nm σ k) arr1 q r) (σ' := stMi σ k v) h.2.1 hlt hO.1 (fun a hd => ?_) (fun a b hda hdb hna hab => ?_)
  · have r0' := h.rest (S := fun a => a = (5, 0, 0) ∨ a = (9, k, 0) ∨ a = (10, k, 0)) hE hF (fun a ha h12 e => by
      rcases e with e | e | e
      · exact Or.inl (h.2.1.one hE ha (dom0 5 (by omega)) h12 e)
      · exact Or.inr (Or.inl (h.2.1.one hE ha (domA 9 k (by omega) hk) h12 e))
      · exact Or.inr (Or.inr (h.2.1.one hE ha (domA 10 k (by omega) hk) h12 e.1)))
    have z : ∀ a i j : Nat, a ≠ 5 → ¬ (i = k ∧ (a = 9 ∨ a = 10)) → ¬ (((a, i, j) : Ro) = (5, 0, 0) ∨ ((a, i, j) : Ro) = (9, k, 0) ∨ ((a, i, j) : Ro) = (10, k, 0)) := fun a i j h3 h4 e => by
      rcases e with e | e | e <;> cases e <;> omega
    have old : ∀ a, domC σ a → a ≠ (10, k, 0) → roM ρ k (St_nm σ k) arr1 q r a = ρ a := fun a hd h2 => roM_o h2 (fun z => by
      subst z; rcases hd with d | d | d | d | d <;> simp at d) (fun z => by
      subst z; rcases hd with d | d | d | d | d <;> simp at d)
    have r' := r0'.tr (ρ' := roM ρ k (St_nm σ k) arr1 q r) (fun j hj => h.ea hj) (fun a hd hr => old a hd (fun z => hr (by subst z; simp [rArr]))) (fun a hd hs => old a hd (fun z => hs (Or.inr (Or.inr z))))
    obtain ⟨r1, r2, r3, -, r5, r6⟩ := id r'
    refine ⟨roM ρ k (St_nm σ k) arr1 q r, ⟨stMi_ok h.1 hn he hv hsq, hs.1, ⟨r1 (z _ _ _ (by omega) (by omega)), r2 (z _ _ _ (by omega) (by omega)) (z _ _ _ (by omega) (by omega)), r3 (z _ _ _ (by omega) (by omega)) (z _ _ _ (by omega) (by omega)), ⟨t, by rw [old _ (dom0 5 (by omega)) (fun z => by cases z)]; exact hdo⟩⟩, fun k2 hk2 => ?_, fun j hj => r6 j hj (z _ _ _ (by omega) (by omega)) (z _ _ _ (by omega) (by omega))⟩, ⟨old _ (dom0 0 (by omega)) (fun z => by cases z), old _ (dom0 5 (by omega)) (fun z => by cases z)⟩, hs.2⟩
    have hk2 : k2 < St_na σ := hk2
    by_cases e : k2 = k
    · subst e
      obtain ⟨a1, a2, -, a4, a5, a6⟩ := r5 k2 hk2
      unfold algC St_nm St_mv
      rw [stMi_m0]
      refine ⟨a1 (z _ _ _ (by omega) (by omega)), a2 (z _ _ _ (by omega) (by omega)) (z _ _ _ (by omega) (by omega)), ⟨md, ?_⟩, a4 (z _ _ _ (by omega) (by omega)), fun i hi => a5 i hi (z _ _ _ (by omega) (by omega)), fun i hi => ?_⟩
      · rw [old _ (domA 9 k2 (by omega) hk) (fun z => by cases z), roM_10]
        refine hL.congr (fun i hi => ?_)
        by_cases e : i = St_nm σ k2
        · subst e; rw [va_up_self, roM_15]
        · rw [va_up_ne _ _ e, old _ (domM 15 k2 i (Or.inl rfl) hk (by omega)) (fun z => by cases z)]
      · have hi : i < St_nm σ k2 + 1 := hi
        show zEl G _ _ _ _ (St_n σ k2) (va_up (St_mv σ k2) (St_nm σ k2) v i) H1
        by_cases e : i = St_nm σ k2
        · subst e
          rw [va_up_self, roM_15, roM_16, old _ (dom0 0 (by omega)) (fun z => by cases z), old _ (domA 6 k2 (by omega) hk) (fun z => by cases z)]
          exact hel
        · rw [va_up_ne _ _ e]
          exact a6 i (by omega) (z _ _ _ (by omega) (by omega)) (z _ _ _ (by omega) (by omega))
    · rw [algC_congr (σ' := stMi σ k v) (σ := σ) rfl rfl (stMi_m e)]
      exact r'.alg hk2 (fun a i h6 => z _ _ _ (by omega) (by omega))
  · rcases stMi_dom hd with d | d | d
    · by_cases e : a = (10, k, 0)
      · subst e
        rw [roM_10]
        rcases ha with w | w
        · exact Or.inl ⟨d, w.1⟩
        · exact Or.inr (Or.inl w)
      · exact Or.inl ⟨d, roM_o e (fun z => by subst z; rcases d with d | d | d | d | d <;> simp at d) (fun z => by subst z; rcases d with d | d | d | d | d <;> simp at d)⟩
    · subst d; rw [roM_15]; exact Or.inr (Or.inl hq)
    · subst d; rw [roM_16]; exact Or.inr (Or.inl hr)
  · have key : ∀ a, domC (stMi σ k v) a → H0.size ≤ roM ρ k (St_nm σ k) arr1 q r a → (a = (10, k, 0) ∧ roM ρ k (St_nm σ k) arr1 q r a = arr1) ∨ (a = (15, k, St_nm σ k) ∧ roM ρ k (St_nm σ k) arr1 q r a = q) ∨ (a = (16, k, St_nm σ k) ∧ roM ρ k (St_nm σ k) arr1 q r a = r) := by
      intro a hd hna
      by_cases e : a = (10, k, 0)
      · subst e; exact Or.inl ⟨rfl, roM_10⟩
      · by_cases e2 : a = (15, k, St_nm σ k)
        · subst e2; exact Or.inr (Or.inl ⟨rfl, roM_15⟩)
        · by_cases e3 : a = (16, k, St_nm σ k)
          · subst e3; exact Or.inr (Or.inr ⟨rfl, roM_16⟩)
          · rw [roM_o e e2 e3] at hna
            rcases stMi_dom hd with d | d | d
            · have := hlt a d
              omega
            · exact absurd d e2
            · exact absurd d e3
    rcases key a hda hna with ⟨e1, f1⟩ | ⟨e1, f1⟩ | ⟨e1, f1⟩ <;> rcases key b hdb (hab ▸ hna) with ⟨e2, f2⟩ | ⟨e2, f2⟩ | ⟨e2, f2⟩ <;> first | (rw [e1, e2]; done) | (exfalso; rw [f1, f2] at hab; first | exact n1 hab | exact n1 hab.symm | exact n2 hab | exact n2 hab.symm | exact n3 hab | exact n3 hab.symm)
def stCl (σ : St) (k : Nat) : St := (σ.1, σ.2.1, σ.2.2.1, σ.2.2.2.1, σ.2.2.2.2.1, (fun j => if j = k then (0, St_mv σ k) else σ.2.2.2.2.2.1 j), σ.2.2.2.2.2.2)
theorem stCl_m {σ : St} {k j : Nat} (h : j ≠ k) : (stCl σ k).2.2.2.2.2.1 j = σ.2.2.2.2.2.1 j := if_neg h
theorem stCl_m0 {σ : St} {k : Nat} : (stCl σ k).2.2.2.2.2.1 k = (0, St_mv σ k) := if_pos rfl
theorem stCl_ok {σ : St} {k : Nat} (h : stOk σ) : stOk (stCl σ k) := by
  obtain ⟨h1, h2, h3, h4, h5, h6⟩ := h
  refine ⟨h1, h2, h3, h4, h5, fun j hj => ?_⟩
  by_cases e : j = k
  · subst e
    unfold St_nm St_mv
    rw [stCl_m0]
    exact ⟨Nat.zero_le 6, fun z => absurd rfl z, fun i hi => absurd hi (Nat.not_lt_zero i)⟩
  · unfold St_nm St_mv
    rw [stCl_m e]
    exact h6 j hj
theorem stCl_dom {σ : St} {k : Nat} {a : Ro} (h : domC (stCl σ k) a) : domC σ a := by
  obtain ⟨κ, i, j⟩ := a
  rcases h with h | h | h | h | ⟨h1, h2, h3⟩
  · exact Or.inl h
  · exact Or.inr (Or.inl h)
  · exact Or.inr (Or.inr (Or.inl h))
  · exact Or.inr (Or.inr (Or.inr (Or.inl h)))
  · have h3 : j < ((stCl σ k).2.2.2.2.2.1 i).1 := h3
    by_cases e : i = k
    · subst e
      rw [stCl_m0] at h3
      exact absurd h3 (Nat.not_lt_zero j)
    · rw [stCl_m e] at h3
      exact Or.inr (Or.inr (Or.inr (Or.inr ⟨h1, h2, h3⟩)))
theorem HC.nomi {l : Launch} {G : zG} {s0 : State} {ρ : Ro → Nat} {σ : St} {H H1 : Heap} {k : Nat} {md t : Int} (hE : zE l s0 G) (h : HC G s0 ρ σ H) (hF : zF (fun z => z = ρ (5, 0, 0) ∨ z = ρ (9, k, 0) ∨ (z = ρ (10, k, 0) ∧ ρ (10, k, 0) ≠ G.2 12)) H H1)
    (hk : k < St_na σ) (hdo : zAt G (ρ (5, 0, 0)) (zOb 1 [.int (iI t)]) H1) (hL : zLs G (ρ (9, k, 0)) 0 (fun i => ρ (15, k, i)) (ρ (10, k, 0)) md H1) : HC G s0 ρ (stCl σ k) H1 := by
  have r' := h.rest (S := fun a => a = (5, 0, 0) ∨ a = (9, k, 0) ∨ a = (10, k, 0)) hE hF (fun a ha h12 e => by
    rcases e with e | e | e
    · exact Or.inl (h.2.1.one hE ha (dom0 5 (by omega)) h12 e)
    · exact Or.inr (Or.inl (h.2.1.one hE ha (domA 9 k (by omega) hk) h12 e))
    · exact Or.inr (Or.inr (h.2.1.one hE ha (domA 10 k (by omega) hk) h12 e.1)))
  have z : ∀ a i j : Nat, a ≠ 5 → ¬ (i = k ∧ (a = 9 ∨ a = 10)) → ¬ (((a, i, j) : Ro) = (5, 0, 0) ∨ ((a, i, j) : Ro) = (9, k, 0) ∨ ((a, i, j) : Ro) = (10, k, 0)) := fun a i j h3 h4 e => by
    rcases e with e | e | e <;> cases e <;> omega
  obtain ⟨r1, r2, r3, -, r5, r6⟩ := id r'
  refine ⟨stCl_ok h.1, ⟨fun a ha => h.2.1.1 a (stCl_dom ha), fun a b ha hb => h.2.1.2 a b (stCl_dom ha) (stCl_dom hb)⟩, ⟨r1 (z _ _ _ (by omega) (by omega)), r2 (z _ _ _ (by omega) (by omega)) (z _ _ _ (by omega) (by omega)), r3 (z _ _ _ (by omega) (by omega)) (z _ _ _ (by omega) (by omega)), ⟨t, hdo⟩⟩, fun k2 hk2 => ?_, fun j hj => r6 j hj (z _ _ _ (by omega) (by omega)) (z _ _ _ (by omega) (by omega))⟩
  have hk2 : k2 < St_na σ := hk2
  by_cases e : k2 = k
  · subst e
    obtain ⟨a1, a2, -, a4, a5, a6⟩ := r5 k2 hk2
    unfold algC St_nm St_mv
    rw [stCl_m0]
    exact ⟨a1 (z _ _ _ (by omega) (by omega)), a2 (z _ _ _ (by omega) (by omega)) (z _ _ _ (by omega) (by omega)), ⟨md, hL⟩, a4 (z _ _ _ (by omega) (by omega)), fun i hi => a5 i hi (z _ _ _ (by omega) (by omega)), fun i hi => absurd hi (Nat.not_lt_zero i)⟩
  · rw [algC_congr (σ' := stCl σ k) (σ := σ) rfl rfl (stCl_m e)]
    exact r'.alg hk2 (fun a i h6 => z _ _ _ (by omega) (by omega))
