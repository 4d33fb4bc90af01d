/-! THE HOUSE CHANGES: a new algebra, a dial, a mirror, none -/
set_option maxRecDepth 100000
abbrev rArr (a : Ro) : Prop := a.1 = 2 ∨ a.1 = 4 ∨ a.1 = 8 ∨ a.1 = 10
/-- what stands by ρ stands by ρ', if only lists' arrays lie elsewhere -/
theorem HCr.tr {G : zG} {ρ ρ' : Ro → Nat} {σ : St} {S : Ro → Prop} {H : Heap} (h : HCr G ρ σ S H) (hea : ∀ j, j < St_ne σ → St_ea σ j < St_na σ) (he : ∀ a, domC σ a → ¬ rArr a → ρ' a = ρ a) (hs : ∀ a, domC σ a → ¬ S a → ρ' a = ρ a) : HCr G ρ' σ S H := by
  obtain ⟨r1, r2, r3, r4, r5, r6⟩ := h
  have e0 : ∀ a : Nat, a ≤ 5 → a ≠ 2 → a ≠ 4 → ρ' (a, 0, 0) = ρ (a, 0, 0) := fun a h1 h2 h4 => he _ (dom0 a h1) (by simp only [rArr]; omega)
  refine ⟨fun s => ?_, fun s u => ?_, fun s u => ?_, fun s => ?_, fun k hk => ⟨fun s => ?_, fun s u => ?_, fun s u => ?_, fun s => ?_, fun i hi s => ?_, fun i hi s u => ?_⟩, fun j hj s u => ?_⟩
  · rw [e0 0 (by omega) (by omega) (by omega), e0 1 (by omega) (by omega) (by omega), e0 3 (by omega) (by omega) (by omega), e0 5 (by omega) (by omega) (by omega)]
    exact r1 s
  · obtain ⟨md, hL⟩ := r2 s u
    rw [e0 1 (by omega) (by omega) (by omega), hs _ (dom0 2 (by omega)) u]
    exact ⟨md, hL.congr (fun k hk => (he _ (domA 6 k (by omega) hk) (by simp [rArr])).symm)⟩
  · obtain ⟨md, hL⟩ := r3 s u
    rw [e0 3 (by omega) (by omega) (by omega), hs _ (dom0 4 (by omega)) u]
    exact ⟨md, hL.congr (fun k hk => (he _ (domE 13 k (Or.inl rfl) hk) (by simp [rArr])).symm)⟩
  · rw [e0 5 (by omega) (by omega) (by omega)]
    exact r4 s
  · rw [he _ (domA 6 k (by omega) hk) (by simp [rArr]), he _ (domA 7 k (by omega) hk) (by simp [rArr]), he _ (domA 9 k (by omega) hk) (by simp [rArr]), he _ (domA 11 k (by omega) hk) (by simp [rArr]), e0 0 (by omega) (by omega) (by omega)]
    exact (r5 k hk).1 s
  · obtain ⟨md, hL⟩ := (r5 k hk).2.1 s u
    rw [he _ (domA 7 k (by omega) hk) (by simp [rArr]), hs _ (domA 8 k (by omega) hk) u]
    exact ⟨md, hL⟩
  · obtain ⟨md, hL⟩ := (r5 k hk).2.2.1 s u
    rw [he _ (domA 9 k (by omega) hk) (by simp [rArr]), hs _ (domA 10 k (by omega) hk) u]
    exact ⟨md, hL.congr (fun i hi => (he _ (domM 15 k i (Or.inl rfl) hk hi) (by simp [rArr])).symm)⟩
  · rw [he _ (domA 11 k (by omega) hk) (by simp [rArr])]
    exact zII_congr ((r5 k hk).2.2.2.1 s) (fun i hi => by rw [he _ (domR k i hk hi) (by simp [rArr])])
  · rw [he _ (domR k i hk hi) (by simp [rArr])]
    exact (r5 k hk).2.2.2.2.1 i hi s
  · rw [e0 0 (by omega) (by omega) (by omega), he _ (domA 6 k (by omega) hk) (by simp [rArr]), he _ (domM 15 k i (Or.inl rfl) hk hi) (by simp [rArr]), he _ (domM 16 k i (Or.inr rfl) hk hi) (by simp [rArr])]
    exact (r5 k hk).2.2.2.2.2 i hi s u
  · rw [e0 0 (by omega) (by omega) (by omega), he _ (domE 13 j (Or.inl rfl) hj) (by simp [rArr]), he _ (domE 14 j (Or.inr rfl) hj) (by simp [rArr]), he _ (domA 6 _ (by omega) (hea j hj)) (by simp [rArr])]
    exact r6 j hj s u
theorem algC_congr {G : zG} {ρ : Ro → Nat} {σ σ' : St} {k : Nat} {H : Heap} (h1 : σ'.1 = σ.1) (h2 : σ'.2.2.1 k = σ.2.2.1 k) (h3 : σ'.2.2.2.2.2.1 k = σ.2.2.2.2.2.1 k) : algC G ρ σ' H k = algC G ρ σ H k := by
  unfold algC St_sg St_n St_d St_dv St_kd St_nm St_mv St_p
  rw [h1, h2, h3]
/-- an algebra out of what is left of it -/
theorem HCr.alg {G : zG} {ρ : Ro → Nat} {σ : St} {S : Ro → Prop} {H : Heap} (h : HCr G ρ σ S H) {k : Nat} (hk : k < St_na σ) (hs : ∀ a i, 6 ≤ a → ¬ S (a, k, i)) : algC G ρ σ H k := by
  obtain ⟨a1, a2, a3, a4, a5, a6⟩ := h.2.2.2.2.1 k hk
  exact ⟨a1 (hs _ _ (by omega)), a2 (hs _ _ (by omega)) (hs _ _ (by omega)), a3 (hs _ _ (by omega)) (hs _ _ (by omega)), a4 (hs _ _ (by omega)), fun i hi => a5 i hi (hs _ _ (by omega)), fun i hi => a6 i hi (hs _ _ (by omega)) (hs _ _ (by omega))⟩
/-! a new algebra -/
def stAl (σ : St) (kd : Nat) : St := (σ.1, σ.2.1 + 1, (fun k => if k = St_na σ then (kd, 0, fun _ => 0) else σ.2.2.1 k), σ.2.2.2.1, σ.2.2.2.2.1, (fun k => if k = St_na σ then (0, fun _ _ => 0) else σ.2.2.2.2.2.1 k), σ.2.2.2.2.2.2)
theorem stAl_k {σ : St} {kd k : Nat} (h : k ≠ St_na σ) : (stAl σ kd).2.2.1 k = σ.2.2.1 k := if_neg h
theorem stAl_m {σ : St} {kd k : Nat} (h : k ≠ St_na σ) : (stAl σ kd).2.2.2.2.2.1 k = σ.2.2.2.2.2.1 k := if_neg h
theorem stAl_k0 {σ : St} {kd : Nat} : (stAl σ kd).2.2.1 (St_na σ) = (kd, 0, fun _ => 0) := if_pos rfl
theorem stAl_m0 {σ : St} {kd : Nat} : (stAl σ kd).2.2.2.2.2.1 (St_na σ) = (0, fun _ _ => 0) := if_pos rfl
theorem stAl_d {σ : St} {kd k : Nat} (h : k ≠ St_na σ) : St_d (stAl σ kd) k = St_d σ k := by unfold St_d; rw [stAl_k h]
theorem stAl_nm {σ : St} {kd k : Nat} (h : k ≠ St_na σ) : St_nm (stAl σ kd) k = St_nm σ k := by unfold St_nm; rw [stAl_m h]
theorem stAl_ok {σ : St} {kd : Nat} (h : stOk σ) (hkd : kd < 2) (hn : St_na σ < 4) : stOk (stAl σ kd) := by
  obtain ⟨h1, h2, h3, h4, h5, h6⟩ := h
  refine ⟨h1, ?_, fun k hk => ?_, h4, fun j hj => ?_, fun k hk => ?_⟩
  · show St_na σ + 1 ≤ 4
    omega
  · have hk : k < St_na σ + 1 := hk
    by_cases e : k = St_na σ
    · subst e
      unfold St_kd St_d St_dv
      rw [stAl_k0]
      exact ⟨hkd, Nat.zero_le 4, fun i hi => absurd hi (Nat.not_lt_zero i)⟩
    · unfold St_kd St_d St_dv
      rw [stAl_k e]
      exact h3 k (by omega)
  · have hj : j < St_ne σ := hj
    have h7 := h5 j hj
    refine ⟨Nat.lt_succ_of_lt h7.1, ?_⟩
    have e : St_ea σ j ≠ St_na σ := by omega
    have e2 : St_n (stAl σ kd) (St_ea (stAl σ kd) j) = St_n σ (St_ea σ j) := by
      show 2 ^ St_d (stAl σ kd) (St_ea σ j) = _
      rw [stAl_d e]
    rw [e2]
    exact h7.2
  · have hk : k < St_na σ + 1 := hk
    by_cases e : k = St_na σ
    · subst e
      unfold St_nm St_mv
      rw [stAl_m0]
      exact ⟨by decide, fun z => absurd rfl z, fun i hi => absurd hi (Nat.not_lt_zero i)⟩
    · have h7 := h6 k (by omega)
      unfold St_nm St_mv St_sg St_n St_kd St_d St_dv
      rw [stAl_m e, stAl_k e]
      exact h7
theorem stAl_dom {σ : St} {kd : Nat} {a : Ro} (h : domC (stAl σ kd) a) : domC σ a ∨ (a.2.1 = St_na σ ∧ 6 ≤ a.1 ∧ a.1 ≤ 12 ∧ a.2.2 = 0) := by
  obtain ⟨κ, i, j⟩ := a
  rcases h with h | ⟨h1, h2, h3⟩ | ⟨h1, h2, h3⟩ | h | ⟨h1, h2, h3⟩
  · exact Or.inl (Or.inl h)
  · have h1 : 6 ≤ κ ∧ κ ≤ 11 := h1
    have h2 : i < St_na σ + 1 := h2
    have h3 : j = 0 := h3
    by_cases e : i = St_na σ
    · exact Or.inr ⟨e, h1.1, by show κ ≤ 12; omega, h3⟩
    · exact Or.inl (Or.inr (Or.inl ⟨h1, by show i < St_na σ; omega, h3⟩))
  · have h1 : κ = 12 := h1
    have h2 : i < St_na σ + 1 := h2
    have h3 : j < St_n (stAl σ kd) i := h3
    by_cases e : i = St_na σ
    · subst e
      have e2 : St_n (stAl σ kd) (St_na σ) = 1 := by
        show 2 ^ ((stAl σ kd).2.2.1 (St_na σ)).2.1 = 1
        rw [stAl_k0]; rfl
      rw [e2] at h3
      exact Or.inr ⟨rfl, by show 6 ≤ κ; omega, by show κ ≤ 12; omega, by show j = 0; omega⟩
    · have e2 : St_n (stAl σ kd) i = St_n σ i := by
        show 2 ^ St_d (stAl σ kd) i = _
        rw [stAl_d e]
      rw [e2] at h3
      exact Or.inl (Or.inr (Or.inr (Or.inl ⟨h1, by show i < St_na σ; omega, h3⟩)))
  · exact Or.inl (Or.inr (Or.inr (Or.inr (Or.inl h))))
  · have h1 : κ = 15 ∨ κ = 16 := h1
    have h2 : i < St_na σ + 1 := h2
    have h3 : j < St_nm (stAl σ kd) i := h3
    by_cases e : i = St_na σ
    · subst e
      have e2 : St_nm (stAl σ kd) (St_na σ) = 0 := by
        show ((stAl σ kd).2.2.2.2.2.1 (St_na σ)).1 = 0
        rw [stAl_m0]
      rw [e2] at h3
      omega
    · rw [stAl_nm e] at h3
      exact Or.inl (Or.inr (Or.inr (Or.inr (Or.inr ⟨h1, by show i < St_na σ; omega, h3⟩))))
def roA (G : zG) (ρ : Ro → Nat) (na arr g dl ml so r0 : Nat) : Ro → Nat := fun a =>
  if a = (2, 0, 0) then arr else if a.2.1 = na ∧ 6 ≤ a.1 ∧ a.1 ≤ 12 then (if a.1 = 6 then g else if a.1 = 7 then dl else if a.1 = 9 then ml else if a.1 = 11 then so else if a.1 = 12 then r0 else G.2 12) else ρ a
section ROA
variable {G : zG} {ρ : Ro → Nat} {na arr g dl ml so r0 : Nat}
theorem roA_o {a : Ro} (h1 : a ≠ (2, 0, 0)) (h2 : ¬ (a.2.1 = na ∧ 6 ≤ a.1 ∧ a.1 ≤ 12)) : roA G ρ na arr g dl ml so r0 a = ρ a := by unfold roA; rw [if_neg h1, if_neg h2]
theorem roA_2 : roA G ρ na arr g dl ml so r0 (2, 0, 0) = arr := if_pos rfl
theorem roA_n {a i : Nat} (h : 6 ≤ a ∧ a ≤ 12) : roA G ρ na arr g dl ml so r0 (a, na, i) = if a = 6 then g else if a = 7 then dl else if a = 9 then ml else if a = 11 then so else if a = 12 then r0 else G.2 12 := by
  unfold roA
  rw [if_neg (fun z => by cases z; omega), if_pos ⟨rfl, h⟩]
end ROA
theorem sgT_0 {p : Int} (hp : pr357 p) (kd : Nat) (dv : Nat → Int) (i j : Nat) : sgT p kd 0 dv i j = 1 := by
  have h : sgK kd dv 0 i j = 1 := by unfold sgK; split <;> rfl
  unfold sgT
  rw [h]
  exact md_le hp (by rcases hp with e | e | e <;> rw [e] <;> decide)
theorem HC.newal {l : Launch} {G : zG} {s0 : State} {ρ : Ro → Nat} {σ : St} {H0 H H1 : Heap} {kd g dl ml so r0 arr1 : Nat} {md m1 m2 : Int} (hE : zE l s0 G) (hO : zO s0 H0) (hh : HC G s0 ρ σ H0) (h : HC G s0 ρ σ H) (hF : zF (fun z => z = ρ (1, 0, 0) ∨ (z = ρ (2, 0, 0) ∧ ρ (2, 0, 0) ≠ G.2 12)) H H1)
    (hkd : kd < 2) (hn : St_na σ < 4) (hnew : H0.size ≤ g ∧ H0.size ≤ dl ∧ H0.size ≤ ml ∧ H0.size ≤ so ∧ H0.size ≤ r0) (ha : (arr1 = ρ (2, 0, 0) ∧ ρ (2, 0, 0) ≠ G.2 12) ∨ H0.size ≤ arr1)
    (hap : g ≠ dl ∧ g ≠ ml ∧ g ≠ so ∧ g ≠ r0 ∧ dl ≠ ml ∧ dl ≠ so ∧ dl ≠ r0 ∧ ml ≠ so ∧ ml ≠ r0 ∧ so ≠ r0 ∧ arr1 ≠ g ∧ arr1 ≠ dl ∧ arr1 ≠ ml ∧ arr1 ≠ so ∧ arr1 ≠ r0)
    (hL : zLs G (ρ (1, 0, 0)) (St_na σ + 1) (va_up (fun k => ρ (6, k, 0)) (St_na σ) g) arr1 md H1)
    (h6 : zAt G g (zOb 4 [.ref (G.2 (10 + kd)), .ref dl, .ref ml, .ref so, .ref (ρ (0, 0, 0))]) H1) (h7 : zAt G dl (zOb 8 [.int (iI m1), .ref (G.2 12), .int (iI 0)]) H1) (h9 : zAt G ml (zOb 8 [.int (iI m2), .ref (G.2 12), .int (iI 0)]) H1) (h11 : zAt G so (zII G 1 (fun _ => some r0)) H1) (h12 : zAt G r0 (zI G 1 (fun _ => 1)) H1) : PoC G s0 H0 ρ σ (stAl σ kd) H1 := by
  have hlt := hh.lt hE hO
  have h12' := hG12 hE
  have hs := sepC.grow (ρ' := roA G ρ (St_na σ) arr1 g dl ml so r0) (σ' := stAl σ kd) h.2.1 hlt hO.1 (fun a hd => ?_) (fun a b hda hdb hna hab => ?_)
  · have r0' := h.rest (S := fun a => a = (1, 0, 0) ∨ a = (2, 0, 0)) hE hF (fun a ha h12 e => e.elim (fun e => Or.inl (h.2.1.one hE ha (dom0 1 (by omega)) h12 e)) (fun e => Or.inr (h.2.1.one hE ha (dom0 2 (by omega)) h12 e.1)))
    have z : ∀ a i j : Nat, a ≠ 1 → a ≠ 2 → ¬ (((a, i, j) : Ro) = (1, 0, 0) ∨ ((a, i, j) : Ro) = (2, 0, 0)) := fun a i j h3 h4 e => e.elim (fun e => h3 (by cases e; rfl)) (fun e => h4 (by cases e; rfl))
    have old : ∀ a, domC σ a → a ≠ (2, 0, 0) → roA G ρ (St_na σ) arr1 g dl ml so r0 a = ρ a := fun a hd h2 => roA_o h2 (fun z => by
      rcases hd with d | d | d | d | d <;> omega)
    have r := r0'.tr (ρ' := roA G ρ (St_na σ) arr1 g dl ml so r0) (fun j hj => h.ea hj) (fun a hd hr => old a hd (fun z => hr (by subst z; simp [rArr]))) (fun a hd hs => old a hd (fun z => hs (Or.inr z)))
    have e0 : ∀ a : Nat, a ≤ 5 → a ≠ 2 → roA G ρ (St_na σ) arr1 g dl ml so r0 (a, 0, 0) = ρ (a, 0, 0) := fun a h1 h2 => old _ (dom0 a h1) (fun z => h2 (by cases z; rfl))
    obtain ⟨r1, -, r3, r4, r5, r6⟩ := id r
    refine ⟨roA G ρ (St_na σ) arr1 g dl ml so r0, ⟨stAl_ok h.1 hkd hn, hs.1, ⟨r1 (z _ _ _ (by omega) (by omega)), ⟨md, ?_⟩, r3 (z _ _ _ (by omega) (by omega)) (z _ _ _ (by omega) (by omega)), r4 (z _ _ _ (by omega) (by omega))⟩, fun k hk => ?_, fun j hj => ?_⟩, ⟨e0 0 (by omega) (by omega), e0 5 (by omega) (by omega)⟩, hs.2⟩
    · rw [e0 1 (by omega) (by omega), roA_2]
      refine hL.congr (fun k hk => ?_)
      by_cases e : k = St_na σ
      · subst e; rw [va_up_self, roA_n (by omega), if_pos rfl]
      · rw [va_up_ne _ _ e, old _ (domA 6 k (by omega) (by omega)) (fun z => by cases z)]
    · have hk : k < St_na σ + 1 := hk
      by_cases e : k = St_na σ
      · subst e
        unfold algC St_sg St_n St_d St_dv St_kd St_nm St_mv
        rw [stAl_k0, stAl_m0, roA_n (by omega), roA_n (by omega), roA_n (by omega), roA_n (by omega), roA_n (by omega), roA_n (by omega), e0 0 (by omega) (by omega)]
        refine ⟨h6, ⟨m1, h7, Or.inl ⟨rfl, rfl⟩⟩, ⟨m2, h9, Or.inl ⟨rfl, rfl⟩⟩, zII_congr h11 (fun i hi => ?_), fun i hi => ?_, fun i hi => absurd hi (Nat.not_lt_zero i)⟩
        · rw [roA_n (by omega)]; rfl
        · rw [roA_n (by omega)]
          exact zI_congr h12 (fun j hj => (sgT_0 h.1.1 kd _ i j).symm)
      · rw [algC_congr (σ' := stAl σ kd) (σ := σ) rfl (stAl_k e) (stAl_m e)]
        exact r.alg (by omega) (fun a i h6 => z _ _ _ (by omega) (by omega))
    · have hj : j < St_ne σ := hj
      have e : St_ea σ j ≠ St_na σ := by have := h.ea hj; omega
      have e2 : St_n (stAl σ kd) (St_ea (stAl σ kd) j) = St_n σ (St_ea σ j) := by
        show 2 ^ St_d (stAl σ kd) (St_ea σ j) = _
        rw [stAl_d e]
      rw [e2]
      exact r6 j hj (z _ _ _ (by omega) (by omega)) (z _ _ _ (by omega) (by omega))
  · by_cases e : a = (2, 0, 0)
    · subst e
      rw [roA_2]
      rcases ha with w | w
      · exact Or.inl ⟨dom0 2 (by omega), w.1⟩
      · exact Or.inr (Or.inl w)
    · rcases stAl_dom hd with d | ⟨d1, d2, d3, d4⟩
      · exact Or.inl ⟨d, roA_o e (fun z => by rcases d with d | d | d | d | d <;> omega)⟩
      · obtain ⟨κ, i, j⟩ := a
        have d1 : i = St_na σ := d1
        have d2 : 6 ≤ κ := d2
        have d3 : κ ≤ 12 := d3
        subst d1
        rw [roA_n ⟨d2, d3⟩]
        rcases (show κ = 6 ∨ κ = 7 ∨ κ = 8 ∨ κ = 9 ∨ κ = 10 ∨ κ = 11 ∨ κ = 12 by omega) with rfl | rfl | rfl | rfl | rfl | rfl | rfl
        · exact Or.inr (Or.inl hnew.1)
        · exact Or.inr (Or.inl hnew.2.1)
        · exact Or.inr (Or.inr ⟨rfl, by simp⟩)
        · exact Or.inr (Or.inl hnew.2.2.1)
        · exact Or.inr (Or.inr ⟨rfl, by simp⟩)
        · exact Or.inr (Or.inl hnew.2.2.2.1)
        · exact Or.inr (Or.inl hnew.2.2.2.2)
  · have key : ∀ a, domC (stAl σ kd) a → H0.size ≤ roA G ρ (St_na σ) arr1 g dl ml so r0 a → (a = (2, 0, 0) ∧ roA G ρ (St_na σ) arr1 g dl ml so r0 a = arr1) ∨ (a = (6, St_na σ, 0) ∧ roA G ρ (St_na σ) arr1 g dl ml so r0 a = g) ∨ (a = (7, St_na σ, 0) ∧ roA G ρ (St_na σ) arr1 g dl ml so r0 a = dl) ∨ (a = (9, St_na σ, 0) ∧ roA G ρ (St_na σ) arr1 g dl ml so r0 a = ml) ∨ (a = (11, St_na σ, 0) ∧ roA G ρ (St_na σ) arr1 g dl ml so r0 a = so) ∨ (a = (12, St_na σ, 0) ∧ roA G ρ (St_na σ) arr1 g dl ml so r0 a = r0) := by
      intro a hd hna
      by_cases e : a = (2, 0, 0)
      · subst e; exact Or.inl ⟨rfl, roA_2⟩
      · rcases stAl_dom hd with d | ⟨d1, d2, d3, d4⟩
        · rw [roA_o e (fun z => by rcases d with d | d | d | d | d <;> omega)] at hna
          have := hlt a d
          omega
        · obtain ⟨κ, i, j⟩ := a
          have d1 : i = St_na σ := d1
          have d2 : 6 ≤ κ := d2
          have d3 : κ ≤ 12 := d3
          have d4 : j = 0 := d4
          subst d1; subst d4
          rw [roA_n ⟨d2, d3⟩] at hna ⊢
          have hz := hO.1
          rcases (show κ = 6 ∨ κ = 7 ∨ κ = 8 ∨ κ = 9 ∨ κ = 10 ∨ κ = 11 ∨ κ = 12 by omega) with rfl | rfl | rfl | rfl | rfl | rfl | rfl
          · exact Or.inr (Or.inl ⟨rfl, rfl⟩)
          · exact Or.inr (Or.inr (Or.inl ⟨rfl, rfl⟩))
          · have hna : H0.size ≤ G.2 12 := hna
            omega
          · exact Or.inr (Or.inr (Or.inr (Or.inl ⟨rfl, rfl⟩)))
          · have hna : H0.size ≤ G.2 12 := hna
            omega
          · exact Or.inr (Or.inr (Or.inr (Or.inr (Or.inl ⟨rfl, rfl⟩))))
          · exact Or.inr (Or.inr (Or.inr (Or.inr (Or.inr ⟨rfl, rfl⟩))))
    obtain ⟨n1, n2, n3, n4, n5, n6, n7, n8, n9, n10, n11, n12, n13, n14, n15⟩ := hap
    rcases key a hda hna with ⟨e1, f1⟩ | ⟨e1, f1⟩ | ⟨e1, f1⟩ | ⟨e1, f1⟩ | ⟨e1, f1⟩ | ⟨e1, f1⟩ <;> rcases key b hdb (hab ▸ hna) with ⟨e2, f2⟩ | ⟨e2, f2⟩ | ⟨e2, f2⟩ | ⟨e2, f2⟩ | ⟨e2, f2⟩ | ⟨e2, f2⟩ <;> first | (rw [e1, e2]; done) | (exfalso; rw [f1, f2] at hab; omega)
