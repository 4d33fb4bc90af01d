/-! THE HOUSE: an element's row is another one -/
set_option maxRecDepth 100000
def stEl (σ : St) (e : Nat) (w : Nat → Int) : St := (σ.1, σ.2.1, σ.2.2.1, σ.2.2.2.1, (fun j => if j = e then (St_ea σ e, w) else σ.2.2.2.2.1 j), σ.2.2.2.2.2.1, σ.2.2.2.2.2.2)
def roE (ρ : Ro → Nat) (a0 : Ro) (r : Nat) : Ro → Nat := fun a => if a = a0 then r else ρ a
theorem stEl_ea (σ : St) (e : Nat) (w : Nat → Int) (j : Nat) : St_ea (stEl σ e w) j = St_ea σ j := by
  show (if j = e then (St_ea σ e, w) else σ.2.2.2.2.1 j).1 = _
  split
  · rename_i h; rw [h]
  · rfl
theorem stEl_ev (σ : St) (e : Nat) (w : Nat → Int) (j : Nat) : St_ev (stEl σ e w) j = if j = e then w else St_ev σ j := by
  show (if j = e then (St_ea σ e, w) else σ.2.2.2.2.1 j).2 = _
  split <;> rfl
theorem stEl_dom (σ : St) (e : Nat) (w : Nat → Int) (a : Ro) : domC (stEl σ e w) a ↔ domC σ a := Iff.rfl
theorem stEl_ok {σ : St} {e : Nat} {w : Nat → Int} (h : stOk σ) (he : e < St_ne σ) (hw : rw_ok (St_p σ) (St_n σ (St_ea σ e)) w) : stOk (stEl σ e w) := by
  obtain ⟨h1, h2, h3, h4, h5, h6⟩ := h
  refine ⟨h1, h2, h3, h4, fun j hj => ?_, fun k hk => ?_⟩
  · rw [stEl_ea, stEl_ev]
    refine ⟨(h5 j hj).1, ?_⟩
    by_cases e1 : j = e
    · subst e1; rw [if_pos rfl]; exact hw
    · rw [if_neg e1]; exact (h5 j hj).2
  · refine ⟨(h6 k hk).1, fun hn => ?_, (h6 k hk).2.2⟩
    obtain ⟨j, hj, hj2⟩ := (h6 k hk).2.1 hn
    exact ⟨j, hj, by rw [stEl_ea]; exact hj2⟩
theorem HC.lt {l : Launch} {G : zG} {s0 : State} {ρ : Ro → Nat} {σ : St} {H : Heap} (hE : zE l s0 G) (hO : zO s0 H) (h : HC G s0 ρ σ H) (a : Ro) (ha : domC σ a) : ρ a < H.size := by
  have h12 : G.2 12 < H.size := Nat.lt_of_lt_of_le (hG12 hE) hO.1
  obtain ⟨h1, h2, ⟨⟨sm, c1⟩, ⟨m1, c2⟩, ⟨m2, c3⟩, ⟨t, c4⟩⟩, h4, h5⟩ := h
  have la : ∀ {lc n : Nat} {c : Nat → Nat} {arr : Nat} {md : Int}, zLs G lc n c arr md H → arr < H.size := fun z => z.2.elim (fun w => w.1 ▸ h12) (fun w => w.2.2.lt)
  obtain ⟨κ, i, j⟩ := a
  rcases ha with ⟨e1, e2, e3⟩ | ⟨e1, e2, e3⟩ | ⟨e1, e2, e3⟩ | ⟨e1, e2, e3⟩ | ⟨e1, e2, e3⟩
  · simp only at e1 e2 e3
    subst e2; subst e3
    rcases (show κ = 0 ∨ κ = 1 ∨ κ = 2 ∨ κ = 3 ∨ κ = 4 ∨ κ = 5 by omega) with rfl | rfl | rfl | rfl | rfl | rfl
    · exact c1.lt
    · exact c2.1.lt
    · exact la c2
    · exact c3.1.lt
    · exact la c3
    · exact c4.lt
  · simp only at e1 e2 e3
    subst e3
    obtain ⟨a1, ⟨m3, a2⟩, ⟨m4, a3⟩, a4, a5, a6⟩ := h4 i e2
    rcases (show κ = 6 ∨ κ = 7 ∨ κ = 8 ∨ κ = 9 ∨ κ = 10 ∨ κ = 11 by omega) with rfl | rfl | rfl | rfl | rfl | rfl
    · exact a1.lt
    · exact a2.1.lt
    · exact la a2
    · exact a3.1.lt
    · exact la a3
    · exact a4.lt
  · simp only at e1 e2 e3
    subst e1
    exact ((h4 i e2).2.2.2.2.1 j e3).lt
  · simp only at e1 e2 e3
    subst e3
    rcases e1 with rfl | rfl
    · exact (h5 i e2).1.lt
    · exact (h5 i e2).2.lt
  · simp only at e1 e2 e3
    rcases e1 with rfl | rfl
    · exact ((h4 i e2).2.2.2.2.2 j e3).1.lt
    · exact ((h4 i e2).2.2.2.2.2 j e3).2.lt
/-- what a telling operation leaves: the house as σ' says, its cells the old ones or new -/
def PoC (G : zG) (s0 : State) (H0 : Heap) (ρ : Ro → Nat) (σ σ' : St) (h1 : Heap) : Prop := ∃ ρ', HC G s0 ρ' σ' h1 ∧ (ρ' (0, 0, 0) = ρ (0, 0, 0) ∧ ρ' (5, 0, 0) = ρ (5, 0, 0)) ∧ ∀ z, FC G ρ' σ' z → FC G ρ σ z ∨ H0.size ≤ z
theorem PoC.same {G : zG} {s0 : State} {H0 h1 : Heap} {ρ : Ro → Nat} {σ : St} (h : HC G s0 ρ σ h1) : PoC G s0 H0 ρ σ σ h1 := ⟨ρ, h, ⟨rfl, rfl⟩, fun _ z => Or.inl z⟩
theorem roE_ne {ρ : Ro → Nat} {a0 a : Ro} {r : Nat} (h : a ≠ a0) : roE ρ a0 r a = ρ a := if_neg h
/-- an element gets a row that is new -/
theorem HC.keep {l : Launch} {G : zG} {s0 : State} {ρ : Ro → Nat} {σ : St} {H H1 : Heap} (hE : zE l s0 G) (h : HC G s0 ρ σ H) {e rb : Nat} {w : Nat → Int} (he : e < St_ne σ) (hF : zF (fun z => z = ρ (13, e, 0)) H H1) (h1 : zAt G (ρ (13, e, 0)) (zOb 6 [.ref (ρ (6, St_ea σ e, 0)), .ref rb, .ref (ρ (0, 0, 0))]) H1) (h2 : zAt G rb (zI G (St_n σ (St_ea σ e)) w) H1)
    (hr0 : s0.heap.size ≤ rb) (hr1 : ∀ a, domC σ a → ρ a ≠ rb) (hw : rw_ok (St_p σ) (St_n σ (St_ea σ e)) w) : HC G s0 (roE ρ (14, e, 0) rb) (stEl σ e w) H1 := by
  have hd : domC σ (13, e, 0) := domE 13 e (Or.inl rfl) he
  obtain ⟨k1, k2, ⟨⟨sm, c1⟩, ⟨m1, c2⟩, ⟨m2, c3⟩, ⟨t, c4⟩⟩, h4, h5⟩ := h
  have q : ∀ a : Ro, domC σ a → a ≠ (13, e, 0) → ¬ (a.1 = 2 ∨ a.1 = 4 ∨ a.1 = 8 ∨ a.1 = 10) → ¬ (ρ a = ρ (13, e, 0)) := fun a ha hn hb => k2.ne hE ha hd hn hb
  have qa : ∀ a : Ro, domC σ a → a ≠ (13, e, 0) → ρ a ≠ G.2 12 → ¬ (ρ a = ρ (13, e, 0)) := fun a ha hn h12 z => hn (k2.2 a _ ha hd z h12)
  have z0 : ∀ a : Nat, a ≤ 5 → ((a, 0, 0) : Ro) ≠ (13, e, 0) := fun a ha z => by cases z; omega
  refine ⟨stEl_ok k1 he hw, ⟨fun a ha => ?_, fun a b ha hb hab hn => ?_⟩, ⟨⟨sm, ?_⟩, ⟨m1, ?_⟩, ⟨m2, ?_⟩, ⟨t, ?_⟩⟩, fun k hk => ?_, fun j hj => ?_⟩
  · have ha : domC σ a := ha
    by_cases e1 : a = (14, e, 0)
    · subst e1; left; rw [roE, if_pos rfl]; exact hr0
    · rw [roE_ne e1]; exact k2.1 a ha
  · have ha : domC σ a := ha
    have hb : domC σ b := hb
    by_cases e1 : a = (14, e, 0)
    · by_cases e2 : b = (14, e, 0)
      · rw [e1, e2]
      · rw [e1, roE, if_pos rfl, roE_ne e2] at hab
        exact absurd hab.symm (hr1 b hb)
    · rw [roE_ne e1] at hab hn
      by_cases e2 : b = (14, e, 0)
      · rw [e2, roE, if_pos rfl] at hab
        exact absurd hab (hr1 a ha)
      · rw [roE_ne e2] at hab
        exact k2.2 a b ha hb hab hn
  · exact c1.ext hF (q _ (dom0 0 (by omega)) (z0 0 (by omega)) (by simp))
  · exact c2.ext hF (q _ (dom0 1 (by omega)) (z0 1 (by omega)) (by simp)) (qa _ (dom0 2 (by omega)) (z0 2 (by omega)))
  · exact c3.ext hF (q _ (dom0 3 (by omega)) (z0 3 (by omega)) (by simp)) (qa _ (dom0 4 (by omega)) (z0 4 (by omega)))
  · exact c4.ext hF (q _ (dom0 5 (by omega)) (z0 5 (by omega)) (by simp))
  · have hk : k < St_na σ := hk
    obtain ⟨a1, ⟨m3, a2⟩, ⟨m4, a3⟩, a4, a5, a6⟩ := h4 k hk
    have zA' : ∀ a : Nat, a ≤ 11 → ((a, k, 0) : Ro) ≠ (13, e, 0) := fun a ha z => by cases z; omega
    exact ⟨a1.ext hF (q _ (domA 6 k (by omega) hk) (zA' 6 (by omega)) (by simp)), ⟨m3, a2.ext hF (q _ (domA 7 k (by omega) hk) (zA' 7 (by omega)) (by simp)) (qa _ (domA 8 k (by omega) hk) (zA' 8 (by omega)))⟩, ⟨m4, a3.ext hF (q _ (domA 9 k (by omega) hk) (zA' 9 (by omega)) (by simp)) (qa _ (domA 10 k (by omega) hk) (zA' 10 (by omega)))⟩, a4.ext hF (q _ (domA 11 k (by omega) hk) (zA' 11 (by omega)) (by simp)),
      fun i hi => (a5 i hi).ext hF (q _ (domR k i hk hi) (fun z => by cases z) (by simp)), fun i hi => (a6 i hi).ext hF (q _ (domM 15 k i (Or.inl rfl) hk hi) (fun z => by cases z) (by simp)) (q _ (domM 16 k i (Or.inr rfl) hk hi) (fun z => by cases z) (by simp))⟩
  · have hj : j < St_ne σ := hj
    by_cases e1 : j = e
    · subst e1
      rw [stEl_ea, stEl_ev, if_pos rfl]
      have e14 : roE ρ (14, j, 0) rb (14, j, 0) = rb := if_pos rfl
      show zEl G (ρ (0, 0, 0)) (ρ (6, St_ea σ j, 0)) (ρ (13, j, 0)) (roE ρ (14, j, 0) rb (14, j, 0)) (St_n σ (St_ea σ j)) w H1
      rw [e14]
      exact ⟨h1, h2⟩
    · rw [stEl_ea, stEl_ev, if_neg e1]
      have b0 : ((14, j, 0) : Ro) ≠ (14, e, 0) := fun z => e1 (by cases z; rfl)
      have b1 : ((13, j, 0) : Ro) ≠ (13, e, 0) := fun z => e1 (by cases z; rfl)
      show zEl G (ρ (0, 0, 0)) (ρ (6, St_ea σ j, 0)) (ρ (13, j, 0)) (roE ρ (14, e, 0) rb (14, j, 0)) (St_n σ (St_ea σ j)) (St_ev σ j) H1
      rw [roE_ne b0]
      exact (h5 j hj).ext hF (q _ (domE 13 j (Or.inl rfl) hj) b1 (by simp)) (q _ (domE 14 j (Or.inr rfl) hj) (fun z => by cases z) (by simp))
theorem HC.keepP {l : Launch} {G : zG} {s0 : State} {ρ : Ro → Nat} {σ : St} {H0 H H1 : Heap} (hE : zE l s0 G) (h : HC G s0 ρ σ H) {e rb : Nat} {w : Nat → Int} (he : e < St_ne σ) (hF : zF (fun z => z = ρ (13, e, 0)) H H1) (h1 : zAt G (ρ (13, e, 0)) (zOb 6 [.ref (ρ (6, St_ea σ e, 0)), .ref rb, .ref (ρ (0, 0, 0))]) H1) (h2 : zAt G rb (zI G (St_n σ (St_ea σ e)) w) H1)
    (hO : zO s0 H0) (hh : HC G s0 ρ σ H0) (hr0 : H0.size ≤ rb) (hw : rw_ok (St_p σ) (St_n σ (St_ea σ e)) w) : PoC G s0 H0 ρ σ (stEl σ e w) H1 := by
  refine ⟨_, h.keep hE he hF h1 h2 (Nat.le_trans hO.1 hr0) (fun a ha z => by have := hh.lt hE hO a ha; omega) hw, ⟨roE_ne (fun y => by cases y), roE_ne (fun y => by cases y)⟩, fun z hz => ?_⟩
  obtain ⟨n1, a, ha, rfl⟩ := hz
  by_cases e1 : a = (14, e, 0)
  · right; rw [e1, roE, if_pos rfl]; exact hr0
  · left; rw [roE_ne e1] at n1 ⊢; exact ⟨n1, a, ha, rfl⟩
