/-! THE HOUSE: what it holds; the class's cells by their roles -/
set_option maxRecDepth 100000
/-- p; how many algebras; of each kind, dials' number, dials; how many elements; of each its algebra, its row; mirrors of each algebra: how many, rows; knocks -/
abbrev St : Type := Int × Nat × (Nat → Nat × Nat × (Nat → Int)) × Nat × (Nat → Nat × (Nat → Int)) × (Nat → Nat × (Nat → Nat → Int)) × Nat
abbrev St_p (σ : St) : Int := σ.1
abbrev St_na (σ : St) : Nat := σ.2.1
abbrev St_kd (σ : St) (k : Nat) : Nat := (σ.2.2.1 k).1
abbrev St_d (σ : St) (k : Nat) : Nat := (σ.2.2.1 k).2.1
abbrev St_dv (σ : St) (k : Nat) : Nat → Int := (σ.2.2.1 k).2.2
abbrev St_ne (σ : St) : Nat := σ.2.2.2.1
abbrev St_ea (σ : St) (j : Nat) : Nat := (σ.2.2.2.2.1 j).1
abbrev St_ev (σ : St) (j : Nat) : Nat → Int := (σ.2.2.2.2.1 j).2
abbrev St_nm (σ : St) (k : Nat) : Nat := (σ.2.2.2.2.2.1 k).1
abbrev St_mv (σ : St) (k : Nat) : Nat → Nat → Int := (σ.2.2.2.2.2.1 k).2
abbrev St_kn (σ : St) : Nat := σ.2.2.2.2.2.2
/-- the table of signs of an algebra -/
def sgT (p : Int) (kd d : Nat) (dv : Nat → Int) (i j : Nat) : Int := sgK kd dv d i j % p
abbrev St_sg (σ : St) (k : Nat) : Nat → Nat → Int := sgT (St_p σ) (St_kd σ k) (St_d σ k) (St_dv σ k)
abbrev St_n (σ : St) (k : Nat) : Nat := 2 ^ St_d σ k
def stOk (σ : St) : Prop :=
  pr357 (St_p σ) ∧ St_na σ ≤ 4 ∧ (∀ k, k < St_na σ → St_kd σ k < 2 ∧ St_d σ k ≤ 4 ∧ ∀ i, i < St_d σ k → 0 < St_dv σ k i ∧ St_dv σ k i < St_p σ) ∧
  St_ne σ ≤ 10 ∧ (∀ j, j < St_ne σ → St_ea σ j < St_na σ ∧ rw_ok (St_p σ) (St_n σ (St_ea σ j)) (St_ev σ j)) ∧
  (∀ k, k < St_na σ → St_nm σ k ≤ 6 ∧ (St_nm σ k ≠ 0 → ∃ j, j < St_ne σ ∧ St_ea σ j = k) ∧ ∀ i, i < St_nm σ k → rw_ok (St_p σ) (St_n σ k) (St_mv σ k i) ∧ 0 < sqV (St_p σ) (St_n σ k) (St_kd σ k) (St_sg σ k) (St_mv σ k i))
/-- the places of the class's cells -/
abbrev Ro : Type := Nat × Nat × Nat
def domC (σ : St) (a : Ro) : Prop :=
  (a.1 ≤ 5 ∧ a.2.1 = 0 ∧ a.2.2 = 0) ∨ ((6 ≤ a.1 ∧ a.1 ≤ 11) ∧ a.2.1 < St_na σ ∧ a.2.2 = 0) ∨ (a.1 = 12 ∧ a.2.1 < St_na σ ∧ a.2.2 < St_n σ a.2.1) ∨
  ((a.1 = 13 ∨ a.1 = 14) ∧ a.2.1 < St_ne σ ∧ a.2.2 = 0) ∨ ((a.1 = 15 ∨ a.1 = 16) ∧ a.2.1 < St_na σ ∧ a.2.2 < St_nm σ a.2.1)
def sepC (G : zG) (s0 : State) (ρ : Ro → Nat) (σ : St) : Prop :=
  (∀ a, domC σ a → s0.heap.size ≤ ρ a ∨ (ρ a = G.2 12 ∧ (a.1 = 2 ∨ a.1 = 4 ∨ a.1 = 8 ∨ a.1 = 10))) ∧ (∀ a b, domC σ a → domC σ b → ρ a = ρ b → ρ a ≠ G.2 12 → a = b)
/-- the class's own cells -/
def FC (G : zG) (ρ : Ro → Nat) (σ : St) : Nat → Prop := fun z => z ≠ G.2 12 ∧ ∃ a, domC σ a ∧ ρ a = z
def celC (G : zG) (ρ : Ro → Nat) (σ : St) (H : Heap) : Prop :=
  (∃ sm : Int, zAt G (ρ (0, 0, 0)) (zOb 0 [.int (iI (St_p σ)), .ref (ρ (1, 0, 0)), .ref (ρ (3, 0, 0)), .ref (ρ (5, 0, 0)), .int (iI (St_kn σ : Int)), .long (lI sm)]) H) ∧
  (∃ md : Int, zLs G (ρ (1, 0, 0)) (St_na σ) (fun k => ρ (6, k, 0)) (ρ (2, 0, 0)) md H) ∧
  (∃ md : Int, zLs G (ρ (3, 0, 0)) (St_ne σ) (fun j => ρ (13, j, 0)) (ρ (4, 0, 0)) md H) ∧
  (∃ t : Int, zAt G (ρ (5, 0, 0)) (zOb 1 [.int (iI t)]) H)
def algC (G : zG) (ρ : Ro → Nat) (σ : St) (H : Heap) (k : Nat) : Prop :=
  zAt G (ρ (6, k, 0)) (zOb 4 [.ref (G.2 (10 + St_kd σ k)), .ref (ρ (7, k, 0)), .ref (ρ (9, k, 0)), .ref (ρ (11, k, 0)), .ref (ρ (0, 0, 0))]) H ∧
  (∃ md : Int, zLs G (ρ (7, k, 0)) (St_d σ k) (fun i => G.2 (1000 + ((St_dv σ k i).toNat + 128))) (ρ (8, k, 0)) md H) ∧
  (∃ md : Int, zLs G (ρ (9, k, 0)) (St_nm σ k) (fun i => ρ (15, k, i)) (ρ (10, k, 0)) md H) ∧
  zAt G (ρ (11, k, 0)) (zII G (St_n σ k) (fun i => some (ρ (12, k, i)))) H ∧
  (∀ i, i < St_n σ k → zAt G (ρ (12, k, i)) (zI G (St_n σ k) (St_sg σ k i)) H) ∧
  (∀ i, i < St_nm σ k → zEl G (ρ (0, 0, 0)) (ρ (6, k, 0)) (ρ (15, k, i)) (ρ (16, k, i)) (St_n σ k) (St_mv σ k i) H)
def HC (G : zG) (s0 : State) (ρ : Ro → Nat) (σ : St) (H : Heap) : Prop :=
  stOk σ ∧ sepC G s0 ρ σ ∧ celC G ρ σ H ∧ (∀ k, k < St_na σ → algC G ρ σ H k) ∧ ∀ j, j < St_ne σ → zEl G (ρ (0, 0, 0)) (ρ (6, St_ea σ j, 0)) (ρ (13, j, 0)) (ρ (14, j, 0)) (St_n σ (St_ea σ j)) (St_ev σ j) H
theorem zEl.ext {G : zG} {x g a r n : Nat} {v : Nat → Int} {M : Nat → Prop} {H H1 : Heap} (h : zEl G x g a r n v H) (hF : zF M H H1) (h1 : ¬ M a) (h2 : ¬ M r) : zEl G x g a r n v H1 := ⟨h.1.ext hF h1, h.2.ext hF h2⟩
theorem hG12 {l : Launch} {s0 : State} {G : zG} (hE : zE l s0 G) : G.2 12 < s0.heap.size := zT.old hE.2.2.2.1.2.1.2
section DOM
variable {σ : St}
theorem dom0 (a : Nat) (h : a ≤ 5) : domC σ (a, 0, 0) := Or.inl ⟨h, rfl, rfl⟩
theorem domA (a k : Nat) (h : 6 ≤ a ∧ a ≤ 11) (hk : k < St_na σ) : domC σ (a, k, 0) := Or.inr (Or.inl ⟨h, hk, rfl⟩)
theorem domR (k i : Nat) (hk : k < St_na σ) (hi : i < St_n σ k) : domC σ (12, k, i) := Or.inr (Or.inr (Or.inl ⟨rfl, hk, hi⟩))
theorem domE (a j : Nat) (h : a = 13 ∨ a = 14) (hj : j < St_ne σ) : domC σ (a, j, 0) := Or.inr (Or.inr (Or.inr (Or.inl ⟨h, hj, rfl⟩)))
theorem domM (a k i : Nat) (h : a = 15 ∨ a = 16) (hk : k < St_na σ) (hi : i < St_nm σ k) : domC σ (a, k, i) := Or.inr (Or.inr (Or.inr (Or.inr ⟨h, hk, hi⟩)))
end DOM
theorem sepC.ge {G : zG} {s0 : State} {ρ : Ro → Nat} {σ : St} (h : sepC G s0 ρ σ) {a : Ro} (hd : domC σ a) (hn : ¬ (a.1 = 2 ∨ a.1 = 4 ∨ a.1 = 8 ∨ a.1 = 10)) : s0.heap.size ≤ ρ a := (h.1 a hd).resolve_right (fun z => hn z.2)
theorem sepC.n12 {l : Launch} {G : zG} {s0 : State} {ρ : Ro → Nat} {σ : St} (hE : zE l s0 G) (h : sepC G s0 ρ σ) {a : Ro} (hd : domC σ a) (hn : ¬ (a.1 = 2 ∨ a.1 = 4 ∨ a.1 = 8 ∨ a.1 = 10)) : ρ a ≠ G.2 12 := fun z => by
  have := h.ge hd hn
  have := hG12 hE
  omega
theorem FC.ge {G : zG} {s0 : State} {ρ : Ro → Nat} {σ : St} (h : sepC G s0 ρ σ) {z : Nat} (hz : FC G ρ σ z) : s0.heap.size ≤ z := by
  obtain ⟨h1, a, hd, rfl⟩ := hz
  exact (h.1 a hd).resolve_right (fun w => h1 w.1)
theorem FC.in {l : Launch} {G : zG} {s0 : State} {ρ : Ro → Nat} {σ : St} (hE : zE l s0 G) (h : sepC G s0 ρ σ) {a : Ro} (hd : domC σ a) (hn : ¬ (a.1 = 2 ∨ a.1 = 4 ∨ a.1 = 8 ∨ a.1 = 10)) : FC G ρ σ (ρ a) := ⟨h.n12 hE hd hn, a, hd, rfl⟩
theorem HC.ext {l : Launch} {G : zG} {s0 : State} {ρ : Ro → Nat} {σ : St} {M : Nat → Prop} {H H1 : Heap} (hE : zE l s0 G) (h : HC G s0 ρ σ H) (hF : zF M H H1) (hn : ∀ a, domC σ a → ρ a ≠ G.2 12 → ¬ M (ρ a)) : HC G s0 ρ σ H1 := by
  obtain ⟨h1, h2, ⟨⟨sm, c1⟩, ⟨m1, c2⟩, ⟨m2, c3⟩, ⟨t, c4⟩⟩, h4, h5⟩ := h
  have q : ∀ a : Ro, domC σ a → ¬ (a.1 = 2 ∨ a.1 = 4 ∨ a.1 = 8 ∨ a.1 = 10) → ¬ M (ρ a) := fun a ha hb => hn a ha (h2.n12 hE ha hb)
  have d0 : ∀ a : Nat, a ≤ 5 → ¬ (a = 2 ∨ a = 4 ∨ a = 8 ∨ a = 10) → ¬ M (ρ (a, 0, 0)) := fun a ha hb => q (a, 0, 0) (dom0 a ha) hb
  refine ⟨h1, h2, ⟨⟨sm, c1.ext hF (d0 0 (by omega) (by omega))⟩, ⟨m1, c2.ext hF (d0 1 (by omega) (by omega)) (hn _ (dom0 2 (by omega)))⟩, ⟨m2, c3.ext hF (d0 3 (by omega) (by omega)) (hn _ (dom0 4 (by omega)))⟩, ⟨t, c4.ext hF (d0 5 (by omega) (by omega))⟩⟩, fun k hk => ?_, fun j hj => ?_⟩
  · obtain ⟨a1, ⟨m3, a2⟩, ⟨m4, a3⟩, a4, a5, a6⟩ := h4 k hk
    have dA : ∀ a : Nat, 6 ≤ a ∧ a ≤ 11 → ¬ (a = 2 ∨ a = 4 ∨ a = 8 ∨ a = 10) → ¬ M (ρ (a, k, 0)) := fun a ha hb => q (a, k, 0) (domA a k ha hk) hb
    exact ⟨a1.ext hF (dA 6 (by omega) (by omega)), ⟨m3, a2.ext hF (dA 7 (by omega) (by omega)) (hn _ (domA 8 k (by omega) hk))⟩, ⟨m4, a3.ext hF (dA 9 (by omega) (by omega)) (hn _ (domA 10 k (by omega) hk))⟩, a4.ext hF (dA 11 (by omega) (by omega)),
      fun i hi => (a5 i hi).ext hF (q (12, k, i) (domR k i hk hi) (by simp)), fun i hi => (a6 i hi).ext hF (q (15, k, i) (domM 15 k i (Or.inl rfl) hk hi) (by simp)) (q (16, k, i) (domM 16 k i (Or.inr rfl) hk hi) (by simp))⟩
  · exact (h5 j hj).ext hF (q (13, j, 0) (domE 13 j (Or.inl rfl) hj) (by simp)) (q (14, j, 0) (domE 14 j (Or.inr rfl) hj) (by simp))
theorem HC.ext0 {l : Launch} {G : zG} {s0 : State} {ρ : Ro → Nat} {σ : St} {H H1 : Heap} (h : HC G s0 ρ σ H) (hE : zE l s0 G) (hF : zF M0 H H1) : HC G s0 ρ σ H1 := h.ext hE hF (fun _ _ _ => id)
theorem HC.ok {G : zG} {s0 : State} {ρ : Ro → Nat} {σ : St} {H : Heap} (h : HC G s0 ρ σ H) : stOk σ := h.1
theorem HC.sep {G : zG} {s0 : State} {ρ : Ro → Nat} {σ : St} {H : Heap} (h : HC G s0 ρ σ H) : sepC G s0 ρ σ := h.2.1
theorem St_sg_in {σ : St} (h : stOk σ) {k : Nat} (i j : Nat) : 0 ≤ St_sg σ k i j ∧ St_sg σ k i j < St_p σ := md_in h.1 _
/-- an algebra's picture -/
theorem HC.ag {G : zG} {s0 : State} {ρ : Ro → Nat} {σ : St} {H : Heap} (h : HC G s0 ρ σ H) {k : Nat} (hk : k < St_na σ) : zAg G (ρ (0, 0, 0)) (ρ (6, k, 0)) (St_p σ) (St_d σ k) (St_n σ k) (St_kd σ k) (St_dv σ k) (St_sg σ k) H := by
  obtain ⟨h1, h2, ⟨⟨sm, c1⟩, -⟩, h4, h5⟩ := h
  obtain ⟨a1, ⟨m3, a2⟩, ⟨m4, a3⟩, a4, a5, a6⟩ := h4 k hk
  obtain ⟨b1, b2, b3⟩ := h1.2.2.1 k hk
  exact ⟨_, _, _, _, sm, _, _, _, _, m3, fun i => ρ (12, k, i), c1, a1, a2, a4, a5, h1.1, b2, rfl, b1, b3, fun i j _ _ => St_sg_in h1 i j⟩
theorem HC.el {G : zG} {s0 : State} {ρ : Ro → Nat} {σ : St} {H : Heap} (h : HC G s0 ρ σ H) {j : Nat} (hj : j < St_ne σ) : zEl G (ρ (0, 0, 0)) (ρ (6, St_ea σ j, 0)) (ρ (13, j, 0)) (ρ (14, j, 0)) (St_n σ (St_ea σ j)) (St_ev σ j) H := h.2.2.2.2 j hj
theorem HC.row {G : zG} {s0 : State} {ρ : Ro → Nat} {σ : St} {H : Heap} (h : HC G s0 ρ σ H) {j : Nat} (hj : j < St_ne σ) : rw_ok (St_p σ) (St_n σ (St_ea σ j)) (St_ev σ j) := (h.1.2.2.2.2.1 j hj).2
theorem HC.ea {G : zG} {s0 : State} {ρ : Ro → Nat} {σ : St} {H : Heap} (h : HC G s0 ρ σ H) {j : Nat} (hj : j < St_ne σ) : St_ea σ j < St_na σ := (h.1.2.2.2.2.1 j hj).1
/-- two cells with roles of their own are two -/
theorem sepC.ne {l : Launch} {G : zG} {s0 : State} {ρ : Ro → Nat} {σ : St} (hE : zE l s0 G) (h : sepC G s0 ρ σ) {a b : Ro} (ha : domC σ a) (hb : domC σ b) (hab : a ≠ b) (hn : ¬ (a.1 = 2 ∨ a.1 = 4 ∨ a.1 = 8 ∨ a.1 = 10)) : ρ a ≠ ρ b := fun z => hab (h.2 a b ha hb z (h.n12 hE ha hn))
