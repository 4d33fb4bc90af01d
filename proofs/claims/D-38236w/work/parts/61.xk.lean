/-! THE HOUSE CHANGES: what stays, what is new -/
set_option maxRecDepth 100000
theorem sepC.grow {G : zG} {s0 : State} {ρ ρ' : Ro → Nat} {σ σ' : St} {N : Nat} (h : sepC G s0 ρ σ) (hlt : ∀ a, domC σ a → ρ a < N) (hN : s0.heap.size ≤ N)
    (hc : ∀ a, domC σ' a → (domC σ a ∧ ρ' a = ρ a) ∨ N ≤ ρ' a ∨ (ρ' a = G.2 12 ∧ (a.1 = 2 ∨ a.1 = 4 ∨ a.1 = 8 ∨ a.1 = 10))) (hi : ∀ a b, domC σ' a → domC σ' b → N ≤ ρ' a → ρ' a = ρ' b → a = b) : sepC G s0 ρ' σ' ∧ ∀ z, FC G ρ' σ' z → FC G ρ σ z ∨ N ≤ z := by
  refine ⟨⟨fun a ha => ?_, fun a b ha hb hab hn => ?_⟩, fun z hz => ?_⟩
  · rcases hc a ha with ⟨d, e⟩ | e | e
    · rw [e]; exact h.1 a d
    · exact Or.inl (Nat.le_trans hN e)
    · exact Or.inr e
  · rcases hc a ha with ⟨d, e⟩ | e | e
    · rcases hc b hb with ⟨d2, e2⟩ | e2 | e2
      · rw [e] at hab hn; rw [e2] at hab; exact h.2 a b d d2 hab hn
      · have := hlt a d
        omega
      · rw [hab, e2.1] at hn; exact absurd rfl hn
    · exact hi a b ha hb e hab
    · exact absurd e.1 hn
  · obtain ⟨n1, a, ha, rfl⟩ := hz
    rcases hc a ha with ⟨d, e⟩ | e | e
    · left; rw [e] at n1 ⊢; exact ⟨n1, a, d, rfl⟩
    · exact Or.inr e
    · exact absurd e.1 n1
/-- the house's cells but for those of the roles S -/
def HCr (G : zG) (ρ : Ro → Nat) (σ : St) (S : Ro → Prop) (H : Heap) : Prop :=
  (¬ S (0, 0, 0) → ∃ sm : Int, zAt G (ρ (0, 0, 0)) (zOb 0 [.int (iI (St_p σ)), .ref (ρ (1, 0, 0)), .ref (ρ (3, 0, 0)), .ref (ρ (5, 0, 0)), .int (iI (St_kn σ : Int)), .long (lI sm)]) H) ∧
  (¬ S (1, 0, 0) → ¬ S (2, 0, 0) → ∃ md : Int, zLs G (ρ (1, 0, 0)) (St_na σ) (fun k => ρ (6, k, 0)) (ρ (2, 0, 0)) md H) ∧
  (¬ S (3, 0, 0) → ¬ S (4, 0, 0) → ∃ md : Int, zLs G (ρ (3, 0, 0)) (St_ne σ) (fun j => ρ (13, j, 0)) (ρ (4, 0, 0)) md H) ∧
  (¬ S (5, 0, 0) → ∃ t : Int, zAt G (ρ (5, 0, 0)) (zOb 1 [.int (iI t)]) H) ∧
  (∀ k, k < St_na σ → (¬ S (6, k, 0) → zAt G (ρ (6, k, 0)) (zOb 4 [.ref (G.2 (10 + St_kd σ k)), .ref (ρ (7, k, 0)), .ref (ρ (9, k, 0)), .ref (ρ (11, k, 0)), .ref (ρ (0, 0, 0))]) H) ∧
    (¬ S (7, k, 0) → ¬ S (8, k, 0) → ∃ md : Int, zLs G (ρ (7, k, 0)) (St_d σ k) (fun i => G.2 (1000 + ((St_dv σ k i).toNat + 128))) (ρ (8, k, 0)) md H) ∧
    (¬ S (9, k, 0) → ¬ S (10, k, 0) → ∃ md : Int, zLs G (ρ (9, k, 0)) (St_nm σ k) (fun i => ρ (15, k, i)) (ρ (10, k, 0)) md H) ∧
    (¬ S (11, k, 0) → zAt G (ρ (11, k, 0)) (zII G (St_n σ k) (fun i => some (ρ (12, k, i)))) H) ∧
    (∀ i, i < St_n σ k → ¬ S (12, k, i) → zAt G (ρ (12, k, i)) (zI G (St_n σ k) (St_sg σ k i)) H) ∧
    (∀ i, i < St_nm σ k → ¬ S (15, k, i) → ¬ S (16, k, i) → zEl G (ρ (0, 0, 0)) (ρ (6, k, 0)) (ρ (15, k, i)) (ρ (16, k, i)) (St_n σ k) (St_mv σ k i) H)) ∧
  ∀ j, j < St_ne σ → ¬ S (13, j, 0) → ¬ S (14, j, 0) → zEl G (ρ (0, 0, 0)) (ρ (6, St_ea σ j, 0)) (ρ (13, j, 0)) (ρ (14, j, 0)) (St_n σ (St_ea σ j)) (St_ev σ j) H
theorem HC.rest {l : Launch} {G : zG} {s0 : State} {ρ : Ro → Nat} {σ : St} {M : Nat → Prop} {H H1 : Heap} {S : Ro → Prop} (hE : zE l s0 G) (h : HC G s0 ρ σ H) (hF : zF M H H1) (hS : ∀ a, domC σ a → ρ a ≠ G.2 12 → M (ρ a) → S a) : HCr G ρ σ S H1 := by
  obtain ⟨h1, h2, ⟨⟨sm, c1⟩, ⟨m1, c2⟩, ⟨m2, c3⟩, ⟨t, c4⟩⟩, h4, h5⟩ := h
  have q : ∀ a : Ro, domC σ a → ¬ (a.1 = 2 ∨ a.1 = 4 ∨ a.1 = 8 ∨ a.1 = 10) → ¬ S a → ¬ M (ρ a) := fun a ha hb hs hm => hs (hS a ha (h2.n12 hE ha hb) hm)
  have qa : ∀ a : Ro, domC σ a → ¬ S a → ρ a ≠ G.2 12 → ¬ M (ρ a) := fun a ha hs h12 hm => hs (hS a ha h12 hm)
  refine ⟨fun s => ⟨sm, c1.ext hF (q _ (dom0 0 (by omega)) (by simp) s)⟩, fun s u => ⟨m1, c2.ext hF (q _ (dom0 1 (by omega)) (by simp) s) (qa _ (dom0 2 (by omega)) u)⟩, fun s u => ⟨m2, c3.ext hF (q _ (dom0 3 (by omega)) (by simp) s) (qa _ (dom0 4 (by omega)) u)⟩, fun s => ⟨t, c4.ext hF (q _ (dom0 5 (by omega)) (by simp) s)⟩, fun k hk => ?_, fun j hj s u => ?_⟩
  · obtain ⟨a1, ⟨m3, a2⟩, ⟨m4, a3⟩, a4, a5, a6⟩ := h4 k hk
    exact ⟨fun s => a1.ext hF (q _ (domA 6 k (by omega) hk) (by simp) s), fun s u => ⟨m3, a2.ext hF (q _ (domA 7 k (by omega) hk) (by simp) s) (qa _ (domA 8 k (by omega) hk) u)⟩, fun s u => ⟨m4, a3.ext hF (q _ (domA 9 k (by omega) hk) (by simp) s) (qa _ (domA 10 k (by omega) hk) u)⟩, fun s => a4.ext hF (q _ (domA 11 k (by omega) hk) (by simp) s),
      fun i hi s => (a5 i hi).ext hF (q _ (domR k i hk hi) (by simp) s), fun i hi s u => (a6 i hi).ext hF (q _ (domM 15 k i (Or.inl rfl) hk hi) (by simp) s) (q _ (domM 16 k i (Or.inr rfl) hk hi) (by simp) u)⟩
  · exact (h5 j hj).ext hF (q _ (domE 13 j (Or.inl rfl) hj) (by simp) s) (q _ (domE 14 j (Or.inr rfl) hj) (by simp) u)
/-- one role of its own is touched -/
theorem sepC.one {l : Launch} {G : zG} {s0 : State} {ρ : Ro → Nat} {σ : St} (hE : zE l s0 G) (h : sepC G s0 ρ σ) {a b : Ro} (ha : domC σ a) (hb : domC σ b) (h12 : ρ a ≠ G.2 12) (e : ρ a = ρ b) : a = b := h.2 a b ha hb e h12
def stKn (σ : St) (kn : Nat) : St := (σ.1, σ.2.1, σ.2.2.1, σ.2.2.2.1, σ.2.2.2.2.1, σ.2.2.2.2.2.1, kn)
theorem stKn_self (σ : St) : stKn σ (St_kn σ) = σ := rfl
/-- the sum and the knocks are others -/
theorem HC.kn {l : Launch} {G : zG} {s0 : State} {ρ : Ro → Nat} {σ : St} {H H1 : Heap} {kn : Nat} {sm : Int} (hE : zE l s0 G) (h : HC G s0 ρ σ H) (hF : zF (fun z => z = ρ (0, 0, 0)) H H1)
    (hx : zAt G (ρ (0, 0, 0)) (zOb 0 [.int (iI (St_p σ)), .ref (ρ (1, 0, 0)), .ref (ρ (3, 0, 0)), .ref (ρ (5, 0, 0)), .int (iI (kn : Int)), .long (lI sm)]) H1) : HC G s0 ρ (stKn σ kn) H1 := by
  have r := h.rest (S := fun a => a = (0, 0, 0)) hE hF (fun a ha h12 e => h.2.1.one hE ha (dom0 0 (by omega)) h12 e)
  have z : ∀ a i j : Nat, a ≠ 0 → ¬ ((a, i, j) : Ro) = (0, 0, 0) := fun a i j ha e => ha (by cases e; rfl)
  obtain ⟨-, r2, r3, r4, r5, r6⟩ := r
  refine ⟨h.1, h.2.1, ⟨⟨sm, hx⟩, r2 (z _ _ _ (by omega)) (z _ _ _ (by omega)), r3 (z _ _ _ (by omega)) (z _ _ _ (by omega)), r4 (z _ _ _ (by omega))⟩, fun k hk => ?_, fun j hj => r6 j hj (z _ _ _ (by omega)) (z _ _ _ (by omega))⟩
  obtain ⟨a1, a2, a3, a4, a5, a6⟩ := r5 k hk
  exact ⟨a1 (z _ _ _ (by omega)), a2 (z _ _ _ (by omega)) (z _ _ _ (by omega)), a3 (z _ _ _ (by omega)) (z _ _ _ (by omega)), a4 (z _ _ _ (by omega)), fun i hi => a5 i hi (z _ _ _ (by omega)), fun i hi => a6 i hi (z _ _ _ (by omega)) (z _ _ _ (by omega))⟩
def stP (σ : St) (p : Int) : St := (p, σ.2)
theorem stOk.ne0 {σ : St} (h : stOk σ) (h0 : St_na σ = 0) : St_ne σ = 0 := by
  rcases Nat.eq_zero_or_pos (St_ne σ) with e | e
  · exact e
  · have := (h.2.2.2.2.1 0 e).1
    omega
theorem HC.prime {l : Launch} {G : zG} {s0 : State} {ρ : Ro → Nat} {σ : St} {H H1 : Heap} {p : Int} {sm : Int} (hE : zE l s0 G) (h : HC G s0 ρ σ H) (hp : pr357 p) (h0 : St_na σ = 0) (hF : zF (fun z => z = ρ (0, 0, 0)) H H1)
    (hx : zAt G (ρ (0, 0, 0)) (zOb 0 [.int (iI p), .ref (ρ (1, 0, 0)), .ref (ρ (3, 0, 0)), .ref (ρ (5, 0, 0)), .int (iI (St_kn σ : Int)), .long (lI sm)]) H1) : HC G s0 ρ (stP σ p) H1 := by
  have r := h.rest (S := fun a => a = (0, 0, 0)) hE hF (fun a ha h12 e => h.2.1.one hE ha (dom0 0 (by omega)) h12 e)
  have z : ∀ a i j : Nat, a ≠ 0 → ¬ ((a, i, j) : Ro) = (0, 0, 0) := fun a i j ha e => ha (by cases e; rfl)
  have hn := h.1.ne0 h0
  obtain ⟨-, r2, r3, r4, -, -⟩ := r
  refine ⟨⟨hp, h.1.2.1, fun k hk => ?_, h.1.2.2.2.1, fun j hj => ?_, fun k hk => ?_⟩, h.2.1, ⟨⟨sm, hx⟩, r2 (z _ _ _ (by omega)) (z _ _ _ (by omega)), r3 (z _ _ _ (by omega)) (z _ _ _ (by omega)), r4 (z _ _ _ (by omega))⟩, fun k hk => ?_, fun j hj => ?_⟩
  · have hk : k < St_na σ := hk
    omega
  · have hj : j < St_ne σ := hj
    omega
  · have hk : k < St_na σ := hk
    omega
  · have hk : k < St_na σ := hk
    omega
  · have hj : j < St_ne σ := hj
    omega
/-- one number of an element is another one -/
theorem HC.setrow {l : Launch} {G : zG} {s0 : State} {ρ : Ro → Nat} {σ : St} {H H1 : Heap} {e : Nat} {w : Nat → Int} (hE : zE l s0 G) (h : HC G s0 ρ σ H) (he : e < St_ne σ) (hF : zF (fun z => z = ρ (14, e, 0)) H H1)
    (hx : zAt G (ρ (14, e, 0)) (zI G (St_n σ (St_ea σ e)) w) H1) (hw : rw_ok (St_p σ) (St_n σ (St_ea σ e)) w) : HC G s0 ρ (stEl σ e w) H1 := by
  have r := h.rest (S := fun a => a = (14, e, 0)) hE hF (fun a ha h12 z => h.2.1.one hE ha (domE 14 e (Or.inr rfl) he) h12 z)
  have z : ∀ a i j : Nat, a ≠ 14 → ¬ ((a, i, j) : Ro) = (14, e, 0) := fun a i j ha z => ha (by cases z; rfl)
  have h13 := (h.el he).1.ext hF (fun y => by have := h.2.1.ne hE (domE 13 e (Or.inl rfl) he) (domE 14 e (Or.inr rfl) he) (fun y => by cases y) (by simp); exact this y)
  obtain ⟨r1, r2, r3, r4, r5, r6⟩ := r
  refine ⟨stEl_ok h.1 he hw, h.2.1, ⟨r1 (z _ _ _ (by omega)), r2 (z _ _ _ (by omega)) (z _ _ _ (by omega)), r3 (z _ _ _ (by omega)) (z _ _ _ (by omega)), r4 (z _ _ _ (by omega))⟩, fun k hk => ?_, fun j hj => ?_⟩
  · obtain ⟨a1, a2, a3, a4, a5, a6⟩ := r5 k hk
    exact ⟨a1 (z _ _ _ (by omega)), a2 (z _ _ _ (by omega)) (z _ _ _ (by omega)), a3 (z _ _ _ (by omega)) (z _ _ _ (by omega)), a4 (z _ _ _ (by omega)), fun i hi => a5 i hi (z _ _ _ (by omega)), fun i hi => a6 i hi (z _ _ _ (by omega)) (z _ _ _ (by omega))⟩
  · by_cases ej : j = e
    · subst ej
      rw [stEl_ea, stEl_ev, if_pos rfl]
      exact ⟨h13, hx⟩
    · rw [stEl_ea, stEl_ev, if_neg ej]
      exact r6 j hj (z _ _ _ (by omega)) (fun y => ej (by cases y; rfl))
/-- one more element -/
def stNew (σ : St) (k : Nat) : St := (σ.1, σ.2.1, σ.2.2.1, σ.2.2.2.1 + 1, (fun j => if j = St_ne σ then (k, fun _ => 0) else σ.2.2.2.2.1 j), σ.2.2.2.2.2.1, σ.2.2.2.2.2.2)
theorem stNew_ea {σ : St} {k j : Nat} (h : j < St_ne σ) : St_ea (stNew σ k) j = St_ea σ j := by
  show (if j = St_ne σ then (k, fun _ => 0) else σ.2.2.2.2.1 j).1 = _
  rw [if_neg (by omega)]
theorem stNew_ev {σ : St} {k j : Nat} (h : j < St_ne σ) : St_ev (stNew σ k) j = St_ev σ j := by
  show (if j = St_ne σ then (k, fun _ => 0) else σ.2.2.2.2.1 j).2 = _
  rw [if_neg (by omega)]
theorem stNew_ea0 {σ : St} {k : Nat} : St_ea (stNew σ k) (St_ne σ) = k := by
  show (if St_ne σ = St_ne σ then (k, fun _ => 0) else σ.2.2.2.2.1 (St_ne σ)).1 = _
  rw [if_pos rfl]
theorem stNew_ev0 {σ : St} {k : Nat} : St_ev (stNew σ k) (St_ne σ) = fun _ => 0 := by
  show (if St_ne σ = St_ne σ then (k, fun _ => (0 : Int)) else σ.2.2.2.2.1 (St_ne σ)).2 = _
  rw [if_pos rfl]
theorem stNew_ok {σ : St} {k : Nat} (h : stOk σ) (hk : k < St_na σ) (hn : St_ne σ < 10) : stOk (stNew σ k) := by
  obtain ⟨h1, h2, h3, h4, h5, h6⟩ := h
  refine ⟨h1, h2, h3, ?_, fun j hj => ?_, fun k2 hk2 => ?_⟩
  · show St_ne σ + 1 ≤ 10
    omega
  · have hj : j < St_ne σ + 1 := hj
    by_cases e : j = St_ne σ
    · subst e
      rw [stNew_ea0, stNew_ev0]
      refine ⟨hk, fun i _ => ?_⟩
      rcases h1 with e | e | e <;> (show (0 : Int) ≤ 0 ∧ 0 < St_p σ) <;> rw [e] <;> decide
    · rw [stNew_ea (by omega), stNew_ev (by omega)]
      exact h5 j (by omega)
  · refine ⟨(h6 k2 hk2).1, fun hn => ?_, (h6 k2 hk2).2.2⟩
    obtain ⟨j, hj, hj2⟩ := (h6 k2 hk2).2.1 hn
    exact ⟨j, Nat.lt_succ_of_lt hj, by rw [stNew_ea hj]; exact hj2⟩
theorem stNew_dom {σ : St} {k : Nat} {a : Ro} (h : domC (stNew σ k) a) : domC σ a ∨ a = (13, St_ne σ, 0) ∨ a = (14, St_ne σ, 0) := by
  obtain ⟨κ, i, j⟩ := a
  rcases h with h | h | h | ⟨h1, h2, h3⟩ | h
  · exact Or.inl (Or.inl h)
  · exact Or.inl (Or.inr (Or.inl h))
  · exact Or.inl (Or.inr (Or.inr (Or.inl h)))
  · have h2 : i < St_ne σ + 1 := h2
    have h3 : j = 0 := h3
    have h1 : κ = 13 ∨ κ = 14 := h1
    by_cases e : i = St_ne σ
    · subst e; subst h3
      right
      rcases h1 with rfl | rfl
      · exact Or.inl rfl
      · exact Or.inr rfl
    · exact Or.inl (Or.inr (Or.inr (Or.inr (Or.inl ⟨h1, by show i < St_ne σ; omega, h3⟩))))
  · exact Or.inl (Or.inr (Or.inr (Or.inr (Or.inr h))))
def roN (ρ : Ro → Nat) (n arr q r : Nat) : Ro → Nat := fun a => if a = (4, 0, 0) then arr else if a = (13, n, 0) then q else if a = (14, n, 0) then r else ρ a
theorem roN_o {ρ : Ro → Nat} {n arr q r : Nat} {a : Ro} (h1 : a ≠ (4, 0, 0)) (h2 : a ≠ (13, n, 0)) (h3 : a ≠ (14, n, 0)) : roN ρ n arr q r a = ρ a := by unfold roN; rw [if_neg h1, if_neg h2, if_neg h3]
theorem roN_4 {ρ : Ro → Nat} {n arr q r : Nat} : roN ρ n arr q r (4, 0, 0) = arr := if_pos rfl
theorem roN_13 {ρ : Ro → Nat} {n arr q r : Nat} : roN ρ n arr q r (13, n, 0) = q := by unfold roN; rw [if_neg (fun z => by cases z), if_pos rfl]
theorem roN_14 {ρ : Ro → Nat} {n arr q r : Nat} : roN ρ n arr q r (14, n, 0) = r := by unfold roN; rw [if_neg (fun z => by cases z), if_neg (fun z => by cases z), if_pos rfl]
theorem HC.newel {l : Launch} {G : zG} {s0 : State} {ρ : Ro → Nat} {σ : St} {H0 H H1 : Heap} {k q r arr1 : Nat} {md : Int} (hE : zE l s0 G) (hO : zO s0 H0) (hh : HC G s0 ρ σ H0) (h : HC G s0 ρ σ H) (hF : zF (fun z => z = ρ (3, 0, 0) ∨ (z = ρ (4, 0, 0) ∧ ρ (4, 0, 0) ≠ G.2 12)) H H1)
    (hk : k < St_na σ) (hn : St_ne σ < 10) (hq : H0.size ≤ q) (hr : H0.size ≤ r) (ha : (arr1 = ρ (4, 0, 0) ∧ ρ (4, 0, 0) ≠ G.2 12) ∨ H0.size ≤ arr1)
    (hL : zLs G (ρ (3, 0, 0)) (St_ne σ + 1) (va_up (fun j => ρ (13, j, 0)) (St_ne σ) q) arr1 md H1) (hel : zEl G (ρ (0, 0, 0)) (ρ (6, k, 0)) q r (St_n σ k) (fun _ => 0) H1) : PoC G s0 H0 ρ σ (stNew σ k) H1 := by
  have hlt := hh.lt hE hO
  have har := hL.arr (by omega)
  have n1 : q ≠ arr1 := z_noArr hE (ci := 6) (t := 3) rfl hel.1 rfl har
  have n2 : r ≠ arr1 := z_noAr2 hel.2 har
  have n3 : q ≠ r := z_noArr hE (ci := 6) (t := 0) rfl hel.1 rfl hel.2
  have hs := sepC.grow (ρ' := roN ρ (St_ne σ) arr1 q r) (σ' := stNew σ k) h.2.1 hlt hO.1 (fun a hd => ?_) (fun a b hda hdb hna hab => ?_)
  · have r0 := h.rest (S := fun a => a = (3, 0, 0) ∨ a = (4, 0, 0)) hE hF (fun a ha h12 e => e.elim (fun e => Or.inl (h.2.1.one hE ha (dom0 3 (by omega)) h12 e)) (fun e => Or.inr (h.2.1.one hE ha (dom0 4 (by omega)) h12 e.1)))
    have z : ∀ a i j : Nat, a ≠ 3 → a ≠ 4 → ¬ (((a, i, j) : Ro) = (3, 0, 0) ∨ ((a, i, j) : Ro) = (4, 0, 0)) := fun a i j h3 h4 e => e.elim (fun e => h3 (by cases e; rfl)) (fun e => h4 (by cases e; rfl))
    have o : ∀ a i j : Nat, a ≠ 4 → a ≠ 13 → a ≠ 14 → roN ρ (St_ne σ) arr1 q r (a, i, j) = ρ (a, i, j) := fun a i j h1 h2 h3 => roN_o (fun e => h1 (by cases e; rfl)) (fun e => h2 (by cases e; rfl)) (fun e => h3 (by cases e; rfl))
    have oe : ∀ a j : Nat, a ≠ 4 → j ≠ St_ne σ → roN ρ (St_ne σ) arr1 q r (a, j, 0) = ρ (a, j, 0) := fun a j h1 h2 => roN_o (fun e => h1 (by cases e; rfl)) (fun e => h2 (by cases e; rfl)) (fun e => h2 (by cases e; rfl))
    obtain ⟨r1, r2, -, r4, r5, r6⟩ := r0
    refine ⟨roN ρ (St_ne σ) arr1 q r, ⟨stNew_ok h.1 hk hn, hs.1, ⟨?_, ?_, ⟨md, ?_⟩, ?_⟩, fun k2 hk2 => ?_, fun j hj => ?_⟩, ⟨o 0 0 0 (by omega) (by omega) (by omega), o 5 0 0 (by omega) (by omega) (by omega)⟩, hs.2⟩
    · rw [o 0 0 0 (by omega) (by omega) (by omega), o 1 0 0 (by omega) (by omega) (by omega), o 3 0 0 (by omega) (by omega) (by omega), o 5 0 0 (by omega) (by omega) (by omega)]
      exact r1 (z _ _ _ (by omega) (by omega))
    · rw [o 1 0 0 (by omega) (by omega) (by omega), o 2 0 0 (by omega) (by omega) (by omega), show (fun k => roN ρ (St_ne σ) arr1 q r (6, k, 0)) = fun k => ρ (6, k, 0) from funext (fun k => o 6 k 0 (by omega) (by omega) (by omega))]
      exact r2 (z _ _ _ (by omega) (by omega)) (z _ _ _ (by omega) (by omega))
    · rw [o 3 0 0 (by omega) (by omega) (by omega), roN_4]
      refine hL.congr (fun j hj => ?_)
      by_cases e : j = St_ne σ
      · subst e; rw [va_up_self, roN_13]
      · rw [va_up_ne _ _ e, oe 13 j (by omega) e]
    · rw [o 5 0 0 (by omega) (by omega) (by omega)]
      exact r4 (z _ _ _ (by omega) (by omega))
    · have hk2 : k2 < St_na σ := hk2
      obtain ⟨a1, a2, a3, a4, a5, a6⟩ := r5 k2 hk2
      refine ⟨?_, ?_, ?_, ?_, fun i hi => ?_, fun i hi => ?_⟩
      · rw [o 6 k2 0 (by omega) (by omega) (by omega), o 7 k2 0 (by omega) (by omega) (by omega), o 9 k2 0 (by omega) (by omega) (by omega), o 11 k2 0 (by omega) (by omega) (by omega), o 0 0 0 (by omega) (by omega) (by omega)]
        exact a1 (z _ _ _ (by omega) (by omega))
      · rw [o 7 k2 0 (by omega) (by omega) (by omega), o 8 k2 0 (by omega) (by omega) (by omega)]
        exact a2 (z _ _ _ (by omega) (by omega)) (z _ _ _ (by omega) (by omega))
      · rw [o 9 k2 0 (by omega) (by omega) (by omega), o 10 k2 0 (by omega) (by omega) (by omega), show (fun i => roN ρ (St_ne σ) arr1 q r (15, k2, i)) = fun i => ρ (15, k2, i) from funext (fun i => o 15 k2 i (by omega) (by omega) (by omega))]
        exact a3 (z _ _ _ (by omega) (by omega)) (z _ _ _ (by omega) (by omega))
      · rw [o 11 k2 0 (by omega) (by omega) (by omega), show (fun i => some (roN ρ (St_ne σ) arr1 q r (12, k2, i))) = fun i => some (ρ (12, k2, i)) from funext (fun i => by rw [o 12 k2 i (by omega) (by omega) (by omega)])]
        exact a4 (z _ _ _ (by omega) (by omega))
      · rw [o 12 k2 i (by omega) (by omega) (by omega)]
        exact a5 i hi (z _ _ _ (by omega) (by omega))
      · rw [o 0 0 0 (by omega) (by omega) (by omega), o 6 k2 0 (by omega) (by omega) (by omega), o 15 k2 i (by omega) (by omega) (by omega), o 16 k2 i (by omega) (by omega) (by omega)]
        exact a6 i hi (z _ _ _ (by omega) (by omega)) (z _ _ _ (by omega) (by omega))
    · have hj : j < St_ne σ + 1 := hj
      by_cases e : j = St_ne σ
      · subst e
        rw [stNew_ea0, stNew_ev0, roN_13, roN_14, o 0 0 0 (by omega) (by omega) (by omega), o 6 k 0 (by omega) (by omega) (by omega)]
        exact hel
      · rw [stNew_ea (by omega), stNew_ev (by omega), oe 13 j (by omega) e, oe 14 j (by omega) e, o 0 0 0 (by omega) (by omega) (by omega), o 6 _ 0 (by omega) (by omega) (by omega)]
        exact r6 j (by omega) (z _ _ _ (by omega) (by omega)) (z _ _ _ (by omega) (by omega))
  · rcases stNew_dom hd with d | d | d
    · by_cases e : a = (4, 0, 0)
      · subst e
        rw [roN_4]
        rcases ha with e | e
        · exact Or.inl ⟨d, e.1⟩
        · exact Or.inr (Or.inl e)
      · refine Or.inl ⟨d, roN_o e (fun e2 => ?_) (fun e2 => ?_)⟩
        · subst e2
          rcases d with d | d | d | d | d <;> simp at d
        · subst e2
          rcases d with d | d | d | d | d <;> simp at d
    · subst d; rw [roN_13]; exact Or.inr (Or.inl hq)
    · subst d; rw [roN_14]; exact Or.inr (Or.inl hr)
  · have key : ∀ a, domC (stNew σ k) a → H0.size ≤ roN ρ (St_ne σ) arr1 q r a → (a = (4, 0, 0) ∧ roN ρ (St_ne σ) arr1 q r a = arr1) ∨ (a = (13, St_ne σ, 0) ∧ roN ρ (St_ne σ) arr1 q r a = q) ∨ (a = (14, St_ne σ, 0) ∧ roN ρ (St_ne σ) arr1 q r a = r) := by
      intro a hd hna
      by_cases e : a = (4, 0, 0)
      · subst e; exact Or.inl ⟨rfl, roN_4⟩
      · by_cases e2 : a = (13, St_ne σ, 0)
        · subst e2; exact Or.inr (Or.inl ⟨rfl, roN_13⟩)
        · by_cases e3 : a = (14, St_ne σ, 0)
          · subst e3; exact Or.inr (Or.inr ⟨rfl, roN_14⟩)
          · rw [roN_o e e2 e3] at hna
            rcases stNew_dom hd with d | d | d
            · have := hlt a d
              omega
            · exact absurd d e2
            · exact absurd d e3
    rcases key a hda hna with ⟨e1, f1⟩ | ⟨e1, f1⟩ | ⟨e1, f1⟩ <;> rcases key b hdb (hab ▸ hna) with ⟨e2, f2⟩ | ⟨e2, f2⟩ | ⟨e2, f2⟩ <;> first | (rw [e1, e2]; done) | (exfalso; rw [f1, f2] at hab; first | exact n1 hab | exact n1 hab.symm | exact n2 hab | exact n2 hab.symm | exact n3 hab | exact n3 hab.symm)
