/-! THE MODEL: what it holds; its cells by their roles -/
set_option maxRecDepth 100000
abbrev rAm (a : Ro) : Prop := a.1 = 2 ∨ a.1 = 4 ∨ a.1 = 10
def dmMo (σ : St) (a : Ro) : Prop :=
  (a.1 ≤ 4 ∧ a.2.1 = 0 ∧ a.2.2 = 0) ∨ ((a.1 = 6 ∨ a.1 = 7 ∨ a.1 = 9 ∨ a.1 = 10 ∨ a.1 = 11) ∧ a.2.1 < St_na σ ∧ a.2.2 = 0) ∨ (a.1 = 12 ∧ a.2.1 < St_na σ ∧ a.2.2 < St_n σ a.2.1) ∨
  ((a.1 = 13 ∨ a.1 = 14) ∧ a.2.1 < St_ne σ ∧ a.2.2 = 0) ∨ (a.1 = 15 ∧ a.2.1 < St_na σ ∧ a.2.2 < St_nm σ a.2.1)
def sepM (G : zG) (s0 : State) (μ : Ro → Nat) (σ : St) : Prop :=
  (∀ a, dmMo σ a → s0.heap.size ≤ μ a ∨ (μ a = G.2 12 ∧ rAm a)) ∧ (∀ a b, dmMo σ a → dmMo σ b → μ a = μ b → μ a ≠ G.2 12 → a = b)
def FM (G : zG) (μ : Ro → Nat) (σ : St) : Nat → Prop := fun z => z ≠ G.2 12 ∧ ∃ a, dmMo σ a ∧ μ a = z
/-- the dials' array -/
def dvA (σ : St) (k : Nat) : Nat → Int := fun i => if i < St_d σ k then St_dv σ k i else 0
def celM (G : zG) (μ : Ro → Nat) (σ : St) (th : Int) (H : Heap) : Prop :=
  zAt G (μ (0, 0, 0)) (zOb 2 [.int (iI th), .int (iI (St_p σ)), .int (iI (St_kn σ : Int)), .ref (μ (1, 0, 0)), .ref (μ (3, 0, 0))]) H ∧
  (∃ md : Int, zLs G (μ (1, 0, 0)) (St_na σ) (fun k => μ (6, k, 0)) (μ (2, 0, 0)) md H) ∧
  (∃ md : Int, zLs G (μ (3, 0, 0)) (St_ne σ) (fun j => μ (13, j, 0)) (μ (4, 0, 0)) md H)
def algM (G : zG) (μ : Ro → Nat) (σ : St) (H : Heap) (k : Nat) : Prop :=
  zAt G (μ (6, k, 0)) (zOb 5 [.int (iI (St_kd σ k : Int)), .ref (μ (7, k, 0)), .ref (μ (11, k, 0)), .int (iI (St_d σ k : Int)), .ref (μ (9, k, 0)), .ref (μ (0, 0, 0))]) H ∧
  zAt G (μ (7, k, 0)) (zI G 4 (dvA σ k)) H ∧
  (∃ md : Int, zLs G (μ (9, k, 0)) (St_nm σ k) (fun i => μ (15, k, i)) (μ (10, k, 0)) md H) ∧
  zAt G (μ (11, k, 0)) (zII G (St_n σ k) (fun i => some (μ (12, k, i)))) H ∧
  (∀ i, i < St_n σ k → zAt G (μ (12, k, i)) (zI G (St_n σ k) (St_sg σ k i)) H) ∧
  (∀ i, i < St_nm σ k → zAt G (μ (15, k, i)) (zI G (St_n σ k) (St_mv σ k i)) H)
def elM (G : zG) (μ : Ro → Nat) (σ : St) (H : Heap) (j : Nat) : Prop := zAt G (μ (13, j, 0)) (zOb 7 [.int (iI (St_ea σ j : Int)), .ref (μ (14, j, 0))]) H ∧ zAt G (μ (14, j, 0)) (zI G (St_n σ (St_ea σ j)) (St_ev σ j)) H
def HM (G : zG) (s0 : State) (μ : Ro → Nat) (σ : St) (th : Int) (H : Heap) : Prop :=
  stOk σ ∧ sepM G s0 μ σ ∧ celM G μ σ th H ∧ (∀ k, k < St_na σ → algM G μ σ H k) ∧ ∀ j, j < St_ne σ → elM G μ σ H j
section DOMM
variable {σ : St}
theorem domM0 (a : Nat) (h : a ≤ 4) : dmMo σ (a, 0, 0) := Or.inl ⟨h, rfl, rfl⟩
theorem domMA (a k : Nat) (h : a = 6 ∨ a = 7 ∨ a = 9 ∨ a = 10 ∨ a = 11) (hk : k < St_na σ) : dmMo σ (a, k, 0) := Or.inr (Or.inl ⟨h, hk, rfl⟩)
theorem domMR (k i : Nat) (hk : k < St_na σ) (hi : i < St_n σ k) : dmMo σ (12, k, i) := Or.inr (Or.inr (Or.inl ⟨rfl, hk, hi⟩))
theorem domME (a j : Nat) (h : a = 13 ∨ a = 14) (hj : j < St_ne σ) : dmMo σ (a, j, 0) := Or.inr (Or.inr (Or.inr (Or.inl ⟨h, hj, rfl⟩)))
theorem domMM (k i : Nat) (hk : k < St_na σ) (hi : i < St_nm σ k) : dmMo σ (15, k, i) := Or.inr (Or.inr (Or.inr (Or.inr ⟨rfl, hk, hi⟩)))
end DOMM
section SEPM
variable {l : Launch} {G : zG} {s0 : State} {μ : Ro → Nat} {σ : St}
theorem sepM.ge (h : sepM G s0 μ σ) {a : Ro} (hd : dmMo σ a) (hn : ¬ rAm a) : s0.heap.size ≤ μ a := (h.1 a hd).resolve_right (fun z => hn z.2)
theorem sepM.n12 (hE : zE l s0 G) (h : sepM G s0 μ σ) {a : Ro} (hd : dmMo σ a) (hn : ¬ rAm a) : μ a ≠ G.2 12 := fun z => by
  have := h.ge hd hn
  have := hG12 hE
  omega
theorem sepM.one (h : sepM G s0 μ σ) {a b : Ro} (ha : dmMo σ a) (hb : dmMo σ b) (h12 : μ a ≠ G.2 12) (e : μ a = μ b) : a = b := h.2 a b ha hb e h12
theorem sepM.ne (hE : zE l s0 G) (h : sepM G s0 μ σ) {a b : Ro} (ha : dmMo σ a) (hb : dmMo σ b) (hab : a ≠ b) (hn : ¬ rAm a) : μ a ≠ μ b := fun z => hab (h.2 a b ha hb z (h.n12 hE ha hn))
theorem FM.ge (h : sepM G s0 μ σ) {z : Nat} (hz : FM G μ σ z) : s0.heap.size ≤ z := by
  obtain ⟨h1, a, hd, rfl⟩ := hz
  exact (h.1 a hd).resolve_right (fun w => h1 w.1)
theorem FM.in (hE : zE l s0 G) (h : sepM G s0 μ σ) {a : Ro} (hd : dmMo σ a) (hn : ¬ rAm a) : FM G μ σ (μ a) := ⟨h.n12 hE hd hn, a, hd, rfl⟩
end SEPM
theorem sepM.grow {G : zG} {s0 : State} {ρ ρ' : Ro → Nat} {σ σ' : St} {N : Nat} (h : sepM G s0 ρ σ) (hlt : ∀ a, dmMo σ a → ρ a < N) (hN : s0.heap.size ≤ N)
    (hc : ∀ a, dmMo σ' a → (dmMo σ a ∧ ρ' a = ρ a) ∨ N ≤ ρ' a ∨ (ρ' a = G.2 12 ∧ rAm a)) (hi : ∀ a b, dmMo σ' a → dmMo σ' b → N ≤ ρ' a → ρ' a = ρ' b → a = b) : sepM G s0 ρ' σ' ∧ ∀ z, FM G ρ' σ' z → FM G ρ σ z ∨ N ≤ z := by
  refine ⟨⟨fun a ha => ?_, fun a b ha hb hab hn => ?_⟩, fun z hz => ?_⟩
  · rcases hc a ha with ⟨d, e⟩ | e | e
    · rw [e]; exact h.1 a d
    · exact Or.inl (Nat.le_trans hN e)
    · exact Or.inr e
  · rcases hc a ha with ⟨d, e⟩ | e | e
    · rcases hc b hb with ⟨d2, e2⟩ | e2 | e2
      · rw [e] at hab hn; rw [e2] at hab; exact h.2 a b d d2 hab hn
      · have := hlt a d
        omega
      · rw [hab, e2.1] at hn; exact absurd rfl hn
    · exact hi a b ha hb e hab
    · exact absurd e.1 hn
  · obtain ⟨n1, a, ha, rfl⟩ := hz
    rcases hc a ha with ⟨d, e⟩ | e | e
    · left; rw [e] at n1 ⊢; exact ⟨n1, a, d, rfl⟩
    · exact Or.inr e
    · exact absurd e.1 n1
/-- the model's cells but for those of the roles S -/
def HMr (G : zG) (μ : Ro → Nat) (σ : St) (S : Ro → Prop) (th : Int) (H : Heap) : Prop :=
  (¬ S (0, 0, 0) → zAt G (μ (0, 0, 0)) (zOb 2 [.int (iI th), .int (iI (St_p σ)), .int (iI (St_kn σ : Int)), .ref (μ (1, 0, 0)), .ref (μ (3, 0, 0))]) H) ∧
  (¬ S (1, 0, 0) → ¬ S (2, 0, 0) → ∃ md : Int, zLs G (μ (1, 0, 0)) (St_na σ) (fun k => μ (6, k, 0)) (μ (2, 0, 0)) md H) ∧
  (¬ S (3, 0, 0) → ¬ S (4, 0, 0) → ∃ md : Int, zLs G (μ (3, 0, 0)) (St_ne σ) (fun j => μ (13, j, 0)) (μ (4, 0, 0)) md H) ∧
  (∀ k, k < St_na σ → (¬ S (6, k, 0) → zAt G (μ (6, k, 0)) (zOb 5 [.int (iI (St_kd σ k : Int)), .ref (μ (7, k, 0)), .ref (μ (11, k, 0)), .int (iI (St_d σ k : Int)), .ref (μ (9, k, 0)), .ref (μ (0, 0, 0))]) H) ∧
    (¬ S (7, k, 0) → zAt G (μ (7, k, 0)) (zI G 4 (dvA σ k)) H) ∧
    (¬ S (9, k, 0) → ¬ S (10, k, 0) → ∃ md : Int, zLs G (μ (9, k, 0)) (St_nm σ k) (fun i => μ (15, k, i)) (μ (10, k, 0)) md H) ∧
    (¬ S (11, k, 0) → zAt G (μ (11, k, 0)) (zII G (St_n σ k) (fun i => some (μ (12, k, i)))) H) ∧
    (∀ i, i < St_n σ k → ¬ S (12, k, i) → zAt G (μ (12, k, i)) (zI G (St_n σ k) (St_sg σ k i)) H) ∧
    (∀ i, i < St_nm σ k → ¬ S (15, k, i) → zAt G (μ (15, k, i)) (zI G (St_n σ k) (St_mv σ k i)) H)) ∧
  ∀ j, j < St_ne σ → (¬ S (13, j, 0) → zAt G (μ (13, j, 0)) (zOb 7 [.int (iI (St_ea σ j : Int)), .ref (μ (14, j, 0))]) H) ∧ (¬ S (14, j, 0) → zAt G (μ (14, j, 0)) (zI G (St_n σ (St_ea σ j)) (St_ev σ j)) H)
section HMS
variable {l : Launch} {G : zG} {s0 : State} {μ : Ro → Nat} {σ : St} {th : Int} {M : Nat → Prop} {H H1 : Heap}
theorem HM.rest {S : Ro → Prop} (hE : zE l s0 G) (h : HM G s0 μ σ th H) (hF : zF M H H1) (hS : ∀ a, dmMo σ a → μ a ≠ G.2 12 → M (μ a) → S a) : HMr G μ σ S th H1 := by
  obtain ⟨h1, h2, ⟨c1, ⟨m1, c2⟩, ⟨m2, c3⟩⟩, h4, h5⟩ := h
  have q : ∀ a : Ro, dmMo σ a → ¬ rAm a → ¬ S a → ¬ M (μ a) := fun a ha hb hs hm => hs (hS a ha (h2.n12 hE ha hb) hm)
  have qa : ∀ a : Ro, dmMo σ a → ¬ S a → μ a ≠ G.2 12 → ¬ M (μ a) := fun a ha hs h12 hm => hs (hS a ha h12 hm)
  refine ⟨fun s => c1.ext hF (q _ (domM0 0 (by omega)) (by simp [rAm]) s), fun s u => ⟨m1, c2.ext hF (q _ (domM0 1 (by omega)) (by simp [rAm]) s) (qa _ (domM0 2 (by omega)) u)⟩, fun s u => ⟨m2, c3.ext hF (q _ (domM0 3 (by omega)) (by simp [rAm]) s) (qa _ (domM0 4 (by omega)) u)⟩, fun k hk => ?_, fun j hj => ?_⟩
  · obtain ⟨a1, a2, ⟨m4, a3⟩, a4, a5, a6⟩ := h4 k hk
    exact ⟨fun s => a1.ext hF (q _ (domMA 6 k (by omega) hk) (by simp [rAm]) s), fun s => a2.ext hF (q _ (domMA 7 k (by omega) hk) (by simp [rAm]) s), fun s u => ⟨m4, a3.ext hF (q _ (domMA 9 k (by omega) hk) (by simp [rAm]) s) (qa _ (domMA 10 k (by omega) hk) u)⟩, fun s => a4.ext hF (q _ (domMA 11 k (by omega) hk) (by simp [rAm]) s),
      fun i hi s => (a5 i hi).ext hF (q _ (domMR k i hk hi) (by simp [rAm]) s), fun i hi s => (a6 i hi).ext hF (q _ (domMM k i hk hi) (by simp [rAm]) s)⟩
  · exact ⟨fun s => (h5 j hj).1.ext hF (q _ (domME 13 j (Or.inl rfl) hj) (by simp [rAm]) s), fun s => (h5 j hj).2.ext hF (q _ (domME 14 j (Or.inr rfl) hj) (by simp [rAm]) s)⟩
/-- an algebra out of what is left of it -/
theorem HMr.alg {S : Ro → Prop} (h : HMr G μ σ S th H) {k : Nat} (hk : k < St_na σ) (hs : ∀ a i, 6 ≤ a → a ≠ 13 → a ≠ 14 → ¬ S (a, k, i)) : algM G μ σ H k := by
  obtain ⟨a1, a2, a3, a4, a5, a6⟩ := h.2.2.2.1 k hk
  exact ⟨a1 (hs _ _ (by omega) (by omega) (by omega)), a2 (hs _ _ (by omega) (by omega) (by omega)), a3 (hs _ _ (by omega) (by omega) (by omega)) (hs _ _ (by omega) (by omega) (by omega)), a4 (hs _ _ (by omega) (by omega) (by omega)), fun i hi => a5 i hi (hs _ _ (by omega) (by omega) (by omega)), fun i hi => a6 i hi (hs _ _ (by omega) (by omega) (by omega))⟩
theorem HM.ext (hE : zE l s0 G) (h : HM G s0 μ σ th H) (hF : zF M H H1) (hn : ∀ a, dmMo σ a → μ a ≠ G.2 12 → ¬ M (μ a)) : HM G s0 μ σ th H1 := by
  have r := h.rest (S := fun _ => False) hE hF hn
  exact ⟨h.1, h.2.1, ⟨r.1 id, r.2.1 id id, r.2.2.1 id id⟩, fun k hk => r.alg hk (fun _ _ _ _ _ => id), fun j hj => ⟨(r.2.2.2.2 j hj).1 id, (r.2.2.2.2 j hj).2 id⟩⟩
theorem HM.ext0 (h : HM G s0 μ σ th H) (hE : zE l s0 G) (hF : zF M0 H H1) : HM G s0 μ σ th H1 := h.ext hE hF (fun _ _ _ => id)
theorem HM.ok (h : HM G s0 μ σ th H) : stOk σ := h.1
theorem HM.sep (h : HM G s0 μ σ th H) : sepM G s0 μ σ := h.2.1
theorem HM.al (h : HM G s0 μ σ th H) {k : Nat} (hk : k < St_na σ) : algM G μ σ H k := h.2.2.2.1 k hk
theorem HM.el (h : HM G s0 μ σ th H) {j : Nat} (hj : j < St_ne σ) : elM G μ σ H j := h.2.2.2.2 j hj
theorem HM.row (h : HM G s0 μ σ th H) {j : Nat} (hj : j < St_ne σ) : rw_ok (St_p σ) (St_n σ (St_ea σ j)) (St_ev σ j) := (h.1.2.2.2.2.1 j hj).2
theorem HM.ea (h : HM G s0 μ σ th H) {j : Nat} (hj : j < St_ne σ) : St_ea σ j < St_na σ := (h.1.2.2.2.2.1 j hj).1
theorem HM.lt (hE : zE l s0 G) (hO : zO s0 H) (h : HM G s0 μ σ th H) (a : Ro) (ha : dmMo σ a) : μ a < H.size := by
  have h12 : G.2 12 < H.size := Nat.lt_of_lt_of_le (hG12 hE) hO.1
  obtain ⟨h1, h2, ⟨c1, ⟨m1, c2⟩, ⟨m2, c3⟩⟩, h4, h5⟩ := h
  have la : ∀ {lc n : Nat} {c : Nat → Nat} {arr : Nat} {md : Int}, zLs G lc n c arr md H → arr < H.size := fun z => z.2.elim (fun w => w.1 ▸ h12) (fun w => w.2.2.lt)
  obtain ⟨κ, i, j⟩ := a
  rcases ha with ⟨e1, e2, e3⟩ | ⟨e1, e2, e3⟩ | ⟨e1, e2, e3⟩ | ⟨e1, e2, e3⟩ | ⟨e1, e2, e3⟩
  · simp only at e1 e2 e3
    subst e2; subst e3
    rcases (show κ = 0 ∨ κ = 1 ∨ κ = 2 ∨ κ = 3 ∨ κ = 4 by omega) with rfl | rfl | rfl | rfl | rfl
    · exact c1.lt
    · exact c2.1.lt
    · exact la c2
    · exact c3.1.lt
    · exact la c3
  · simp only at e1 e2 e3
    subst e3
    obtain ⟨a1, a2, ⟨m4, a3⟩, a4, a5, a6⟩ := h4 i e2
    rcases e1 with rfl | rfl | rfl | rfl | rfl
    · exact a1.lt
    · exact a2.lt
    · exact a3.1.lt
    · exact la a3
    · exact a4.lt
  · simp only at e1 e2 e3
    subst e1
    exact ((h4 i e2).2.2.2.2.1 j e3).lt
  · simp only at e1 e2 e3
    subst e3
    rcases e1 with rfl | rfl
    · exact (h5 i e2).1.lt
    · exact (h5 i e2).2.lt
  · simp only at e1 e2 e3
    subst e1
    exact ((h4 i e2).2.2.2.2.2 j e3).lt
theorem HM.n (h : HM G s0 μ σ th H) {k : Nat} (hk : k < St_na σ) : 1 ≤ St_n σ k ∧ St_n σ k ≤ 16 := p2_16 (h.1.2.2.1 k hk).2.1 rfl
end HMS
/-- what a telling operation leaves -/
def PoM (G : zG) (s0 : State) (H0 : Heap) (μ : Ro → Nat) (σ σ' : St) (th : Int) (h1 : Heap) : Prop := ∃ μ', HM G s0 μ' σ' th h1 ∧ (μ' (0, 0, 0) = μ (0, 0, 0)) ∧ ∀ z, FM G μ' σ' z → FM G μ σ z ∨ H0.size ≤ z
theorem PoM.same {G : zG} {s0 : State} {H0 h1 : Heap} {μ : Ro → Nat} {σ : St} {th : Int} (h : HM G s0 μ σ th h1) : PoM G s0 H0 μ σ σ th h1 := ⟨μ, h, rfl, fun _ z => Or.inl z⟩
theorem PoM.ext0 {l : Launch} {G : zG} {s0 : State} {H0 h1 h2 : Heap} {μ : Ro → Nat} {σ σ' : St} {th : Int} (h : PoM G s0 H0 μ σ σ' th h1) (hE : zE l s0 G) (hF : zF M0 h1 h2) : PoM G s0 H0 μ σ σ' th h2 := by
  obtain ⟨μ', a, b⟩ := h
  exact ⟨μ', a.ext0 hE hF, b⟩
/-- what an operation of the model does: thrown is k; if it is 0 it answers y and holds σ', else it holds what it held and the k-th exception is due -/
def HPM (G : zG) (s0 : State) (H0 : Heap) (μ : Ro → Nat) (σ : St) (ex : List String) (R : Int → St → Prop) (X : String → Prop) : Option Value → Heap → Prop :=
  ri (fun y h1 => ∃ (k : Nat) (σ' : St), PoM G s0 H0 μ σ σ' (k : Int) h1 ∧ ((k = 0 ∧ R y σ') ∨ (k ≠ 0 ∧ σ' = σ ∧ k ≤ ex.length ∧ X (ex.getD (k - 1) ""))))
section HMT
variable {l : Launch} {G : zG} {s0 : State} {μ : Ro → Nat} {σ : St} {th t2 : Int} {H H1 : Heap}
/-- thrown, the knocks are others -/
theorem HM.thr {kn : Nat} (hE : zE l s0 G) (h : HM G s0 μ σ th H) (hF : zF (fun z => z = μ (0, 0, 0)) H H1)
    (hx : zAt G (μ (0, 0, 0)) (zOb 2 [.int (iI t2), .int (iI (St_p σ)), .int (iI (kn : Int)), .ref (μ (1, 0, 0)), .ref (μ (3, 0, 0))]) H1) : HM G s0 μ (stKn σ kn) t2 H1 := by
  have r := h.rest (S := fun a => a = (0, 0, 0)) hE hF (fun a ha h12 e => h.2.1.one ha (domM0 0 (by omega)) h12 e)
  have z : ∀ a i j : Nat, a ≠ 0 → ¬ ((a, i, j) : Ro) = (0, 0, 0) := fun a i j ha e => ha (by cases e; rfl)
  exact ⟨h.1, h.2.1, ⟨hx, r.2.1 (z _ _ _ (by omega)) (z _ _ _ (by omega)), r.2.2.1 (z _ _ _ (by omega)) (z _ _ _ (by omega))⟩, fun k hk => r.alg hk (fun a i h6 _ _ => z _ _ _ (by omega)), fun j hj => ⟨(r.2.2.2.2 j hj).1 (z _ _ _ (by omega)), (r.2.2.2.2 j hj).2 (z _ _ _ (by omega))⟩⟩
theorem HM.prime {p : Int} (hE : zE l s0 G) (h : HM G s0 μ σ th H) (hp : pr357 p) (h0 : St_na σ = 0) (hF : zF (fun z => z = μ (0, 0, 0)) H H1)
    (hx : zAt G (μ (0, 0, 0)) (zOb 2 [.int (iI t2), .int (iI p), .int (iI (St_kn σ : Int)), .ref (μ (1, 0, 0)), .ref (μ (3, 0, 0))]) H1) : HM G s0 μ (stP σ p) t2 H1 := by
  have r := h.rest (S := fun a => a = (0, 0, 0)) hE hF (fun a ha h12 e => h.2.1.one ha (domM0 0 (by omega)) h12 e)
  have z : ∀ a i j : Nat, a ≠ 0 → ¬ ((a, i, j) : Ro) = (0, 0, 0) := fun a i j ha e => ha (by cases e; rfl)
  have hn := h.1.ne0 h0
  refine ⟨⟨hp, h.1.2.1, fun k hk => ?_, h.1.2.2.2.1, fun j hj => ?_, fun k hk => ?_⟩, h.2.1, ⟨hx, r.2.1 (z _ _ _ (by omega)) (z _ _ _ (by omega)), r.2.2.1 (z _ _ _ (by omega)) (z _ _ _ (by omega))⟩, fun k hk => ?_, fun j hj => ?_⟩
  · have hk : k < St_na σ := hk
    omega
  · have hj : j < St_ne σ := hj
    omega
  · have hk : k < St_na σ := hk
    omega
  · have hk : k < St_na σ := hk
    omega
  · have hj : j < St_ne σ := hj
    omega
theorem HM.setrow {e : Nat} {w : Nat → Int} (hE : zE l s0 G) (h : HM G s0 μ σ th H) (he : e < St_ne σ) (hF : zF (fun z => z = μ (14, e, 0)) H H1)
    (hx : zAt G (μ (14, e, 0)) (zI G (St_n σ (St_ea σ e)) w) H1) (hw : rw_ok (St_p σ) (St_n σ (St_ea σ e)) w) : HM G s0 μ (stEl σ e w) th H1 := by
  have r := h.rest (S := fun a => a = (14, e, 0)) hE hF (fun a ha h12 z => h.2.1.one ha (domME 14 e (Or.inr rfl) he) h12 z)
  have z : ∀ a i j : Nat, a ≠ 14 → ¬ ((a, i, j) : Ro) = (14, e, 0) := fun a i j ha z => ha (by cases z; rfl)
  refine ⟨stEl_ok h.1 he hw, h.2.1, ⟨r.1 (z _ _ _ (by omega)), r.2.1 (z _ _ _ (by omega)) (z _ _ _ (by omega)), r.2.2.1 (z _ _ _ (by omega)) (z _ _ _ (by omega))⟩, fun k hk => r.alg hk (fun a i h6 _ h14 => z _ _ _ h14), fun j hj => ?_⟩
  have r7 := r.2.2.2.2 j hj
  by_cases ej : j = e
  · subst ej
    unfold elM
    rw [stEl_ea, stEl_ev, if_pos rfl]
    exact ⟨r7.1 (z _ _ _ (by omega)), hx⟩
  · unfold elM
    rw [stEl_ea, stEl_ev, if_neg ej]
    exact ⟨r7.1 (z _ _ _ (by omega)), r7.2 (fun y => ej (by cases y; rfl))⟩
/-- what stands by μ stands by μ', if only lists' arrays and elements' rows lie elsewhere -/
theorem HMr.tr {μ' : Ro → Nat} {S : Ro → Prop} (h : HMr G μ σ S th H) (he : ∀ a, dmMo σ a → ¬ rAm a → a.1 ≠ 14 → μ' a = μ a) (hs : ∀ a, dmMo σ a → ¬ S a → μ' a = μ a) (h14 : ∀ j, j < St_ne σ → ¬ S (13, j, 0) → ¬ S (14, j, 0)) : HMr G μ' σ S th H := by
  obtain ⟨r1, r2, r3, r5, r6⟩ := h
  have e0 : ∀ a : Nat, a ≤ 4 → a ≠ 2 → a ≠ 4 → μ' (a, 0, 0) = μ (a, 0, 0) := fun a h1 h2 h4 => he _ (domM0 a h1) (by simp only [rAm]; omega) (by simp only []; omega)
  have eA : ∀ a k : Nat, (a = 6 ∨ a = 7 ∨ a = 9 ∨ a = 10 ∨ a = 11) → a ≠ 10 → k < St_na σ → μ' (a, k, 0) = μ (a, k, 0) := fun a k h1 h2 hk => he _ (domMA a k h1 hk) (by simp only [rAm]; omega) (by simp only []; omega)
  refine ⟨fun s => ?_, fun s u => ?_, fun s u => ?_, fun k hk => ⟨fun s => ?_, fun s => ?_, fun s u => ?_, fun s => ?_, fun i hi s => ?_, fun i hi s => ?_⟩, fun j hj => ⟨fun s => ?_, fun s => ?_⟩⟩
  · rw [e0 0 (by omega) (by omega) (by omega), e0 1 (by omega) (by omega) (by omega), e0 3 (by omega) (by omega) (by omega)]
    exact r1 s
  · obtain ⟨md, hL⟩ := r2 s u
    rw [e0 1 (by omega) (by omega) (by omega), hs _ (domM0 2 (by omega)) u]
    exact ⟨md, hL.congr (fun k hk => (eA 6 k (by omega) (by omega) hk).symm)⟩
  · obtain ⟨md, hL⟩ := r3 s u
    rw [e0 3 (by omega) (by omega) (by omega), hs _ (domM0 4 (by omega)) u]
    exact ⟨md, hL.congr (fun k hk => (he _ (domME 13 k (Or.inl rfl) hk) (by simp [rAm]) (by simp)).symm)⟩
  · rw [eA 6 k (by omega) (by omega) hk, eA 7 k (by omega) (by omega) hk, eA 9 k (by omega) (by omega) hk, eA 11 k (by omega) (by omega) hk, e0 0 (by omega) (by omega) (by omega)]
    exact (r5 k hk).1 s
  · rw [eA 7 k (by omega) (by omega) hk]
    exact (r5 k hk).2.1 s
  · obtain ⟨md, hL⟩ := (r5 k hk).2.2.1 s u
    rw [eA 9 k (by omega) (by omega) hk, hs _ (domMA 10 k (by omega) hk) u]
    exact ⟨md, hL.congr (fun i hi => (he _ (domMM k i hk hi) (by simp [rAm]) (by simp)).symm)⟩
  · rw [eA 11 k (by omega) (by omega) hk]
    exact zII_congr ((r5 k hk).2.2.2.1 s) (fun i hi => by rw [he _ (domMR k i hk hi) (by simp [rAm]) (by simp)])
  · rw [he _ (domMR k i hk hi) (by simp [rAm]) (by simp)]
    exact (r5 k hk).2.2.2.2.1 i hi s
  · rw [he _ (domMM k i hk hi) (by simp [rAm]) (by simp)]
    exact (r5 k hk).2.2.2.2.2 i hi s
  · rw [he _ (domME 13 j (Or.inl rfl) hj) (by simp [rAm]) (by simp), hs _ (domME 14 j (Or.inr rfl) hj) (h14 j hj s)]
    exact (r6 j hj).1 s
  · rw [hs _ (domME 14 j (Or.inr rfl) hj) s]
    exact (r6 j hj).2 s
theorem algM_congr {σ' : St} {k : Nat} (h1 : σ'.1 = σ.1) (h2 : σ'.2.2.1 k = σ.2.2.1 k) (h3 : σ'.2.2.2.2.2.1 k = σ.2.2.2.2.2.1 k) : algM G μ σ' H k = algM G μ σ H k := by
  unfold algM dvA St_sg St_n St_d St_dv St_kd St_nm St_mv St_p
  rw [h1, h2, h3]
/-- an element's row is another one, that is new -/
theorem HM.put {e rb : Nat} {w : Nat → Int} {H0 : Heap} {th0 : Int} (hE : zE l s0 G) (hO : zO s0 H0) (hh : HM G s0 μ σ th0 H0) (h : HM G s0 μ σ th H) (he : e < St_ne σ) (hF : zF (fun z => z = μ (13, e, 0)) H H1)
    (h1 : zAt G (μ (13, e, 0)) (zOb 7 [.int (iI (St_ea σ e : Int)), .ref rb]) H1) (h2 : zAt G rb (zI G (St_n σ (St_ea σ e)) w) H1) (hr : H0.size ≤ rb) (hw : rw_ok (St_p σ) (St_n σ (St_ea σ e)) w) : PoM G s0 H0 μ σ (stEl σ e w) th H1 := by
  have hlt := hh.lt hE hO
  have hs := sepM.grow (ρ' := roE μ (14, e, 0) rb) (σ' := stEl σ e w) h.2.1 hlt hO.1 (fun a hd => ?_) (fun a b hda hdb hna hab => ?_)
  · have r0 := h.rest (S := fun a => a = (13, e, 0) ∨ a = (14, e, 0)) hE hF (fun a ha h12 z => Or.inl (h.2.1.one ha (domME 13 e (Or.inl rfl) he) h12 z))
    have z : ∀ a i j : Nat, a ≠ 13 → a ≠ 14 → ¬ (((a, i, j) : Ro) = (13, e, 0) ∨ ((a, i, j) : Ro) = (14, e, 0)) := fun a i j h3 h4 y => y.elim (fun y => h3 (by cases y; rfl)) (fun y => h4 (by cases y; rfl))
    have r := r0.tr (μ' := roE μ (14, e, 0) rb) (fun a hd _ h14 => roE_ne (fun y => h14 (by rw [y]))) (fun a hd hs => roE_ne (fun y => hs (Or.inr y))) (fun j hj y w => y (w.elim (fun w => Or.inl (by cases w)) (fun w => Or.inl (by cases w; rfl))))
    refine ⟨roE μ (14, e, 0) rb, ⟨stEl_ok h.1 he hw, hs.1, ⟨r.1 (z _ _ _ (by omega) (by omega)), r.2.1 (z _ _ _ (by omega) (by omega)) (z _ _ _ (by omega) (by omega)), r.2.2.1 (z _ _ _ (by omega) (by omega)) (z _ _ _ (by omega) (by omega))⟩, fun k hk => r.alg hk (fun a i _ h13 h14 => z _ _ _ h13 h14), fun j hj => ?_⟩, roE_ne (fun y => by cases y), hs.2⟩
    have r7 := r.2.2.2.2 j hj
    by_cases ej : j = e
    · subst ej
      unfold elM
      rw [stEl_ea, stEl_ev, if_pos rfl, show roE μ (14, j, 0) rb (14, j, 0) = rb from if_pos rfl, roE_ne (fun y => by cases y)]
      exact ⟨h1, h2⟩
    · unfold elM
      rw [stEl_ea, stEl_ev, if_neg ej]
      exact ⟨r7.1 (fun y => y.elim (fun y => ej (by cases y; rfl)) (fun y => by cases y)), r7.2 (fun y => y.elim (fun y => by cases y) (fun y => ej (by cases y; rfl)))⟩
  · have hd : dmMo σ a := hd
    by_cases e1 : a = (14, e, 0)
    · subst e1; rw [roE, if_pos rfl]; exact Or.inr (Or.inl hr)
    · exact Or.inl ⟨hd, roE_ne e1⟩
  · have hda : dmMo σ a := hda
    have hdb : dmMo σ b := hdb
    have key : ∀ a, dmMo σ a → H0.size ≤ roE μ (14, e, 0) rb a → a = (14, e, 0) := fun a hd hn => by
      by_cases e1 : a = (14, e, 0)
      · exact e1
      · rw [roE_ne e1] at hn
        have := hlt a hd
        omega
    rw [key a hda hna, key b hdb (hab ▸ hna)]
end HMT
