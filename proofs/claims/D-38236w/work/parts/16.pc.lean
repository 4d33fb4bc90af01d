/-! PICTURES: an algebra of the class, an element of the class -/
def zAg (G : zG) (x g : Nat) (p : Int) (d n kd : Nat) (dv : Nat → Int) (sg : Nat → Nat → Int) (H : Heap) : Prop :=
  ∃ (la le dr : Nat) (kn sm : Int) (dl da ml so : Nat) (dm : Int) (ro : Nat → Nat),
    zAt G x (zOb 0 [.int (iI p), .ref la, .ref le, .ref dr, .int (iI kn), .long (lI sm)]) H ∧
    zAt G g (zOb 4 [.ref (G.2 (10 + kd)), .ref dl, .ref ml, .ref so, .ref x]) H ∧
    zLs G dl d (fun i => G.2 (1000 + ((dv i).toNat + 128))) da dm H ∧
    zAt G so (zII G n (fun i => some (ro i))) H ∧ (∀ i, i < n → zAt G (ro i) (zI G n (sg i)) H) ∧
    (pr357 p ∧ d ≤ 4 ∧ n = 2 ^ d ∧ kd < 2 ∧ (∀ i, i < d → 0 < dv i ∧ dv i < p) ∧ ∀ i j, i < n → j < n → 0 ≤ sg i j ∧ sg i j < p)
theorem zAg.ext0 {G : zG} {x g : Nat} {p : Int} {d n kd : Nat} {dv : Nat → Int} {sg : Nat → Nat → Int} {H H1 : Heap} (h : zAg G x g p d n kd dv sg H) (hF : zF M0 H H1) : zAg G x g p d n kd dv sg H1 := by
  obtain ⟨la, le, dr, kn, sm, dl, da, ml, so, dm, ro, h1, h2, h3, h4, h5, h6⟩ := h
  exact ⟨la, le, dr, kn, sm, dl, da, ml, so, dm, ro, h1.ext0 hF, h2.ext0 hF, h3.ext0 hF, h4.ext0 hF, fun i hi => (h5 i hi).ext0 hF, h6⟩
theorem zAg.f {G : zG} {x g : Nat} {p : Int} {d n kd : Nat} {dv : Nat → Int} {sg : Nat → Nat → Int} {H : Heap} (h : zAg G x g p d n kd dv sg H) : pr357 p ∧ d ≤ 4 ∧ n = 2 ^ d ∧ kd < 2 ∧ (∀ i, i < d → 0 < dv i ∧ dv i < p) ∧ ∀ i j, i < n → j < n → 0 ≤ sg i j ∧ sg i j < p := by
  obtain ⟨la, le, dr, kn, sm, dl, da, ml, so, dm, ro, h1, h2, h3, h4, h5, h6⟩ := h
  exact h6
theorem p2_16 {d n : Nat} (h : d ≤ 4) (hn : n = 2 ^ d) : 1 ≤ n ∧ n ≤ 16 := by
  subst hn
  rcases (show d = 0 ∨ d = 1 ∨ d = 2 ∨ d = 3 ∨ d = 4 by omega) with rfl | rfl | rfl | rfl | rfl <;> decide
theorem zAg.n {G : zG} {x g : Nat} {p : Int} {d n kd : Nat} {dv : Nat → Int} {sg : Nat → Nat → Int} {H : Heap} (h : zAg G x g p d n kd dv sg H) : (1 ≤ n ∧ n ≤ 16) ∧ (0 < p ∧ p ≤ 7) := ⟨p2_16 h.f.2.1 h.f.2.2.1, by rcases h.f.1 with rfl | rfl | rfl <;> decide⟩
/-- places of units stay among the units -/
theorem xor_lt {d n i j : Nat} (hn : n = 2 ^ d) (hi : i < n) (hj : j < n) : i ^^^ j < n := by
  subst hn; exact Nat.xor_lt_two_pow hi hj
def zEl (G : zG) (x g a r n : Nat) (v : Nat → Int) (H : Heap) : Prop := zAt G a (zOb 6 [.ref g, .ref r, .ref x]) H ∧ zAt G r (zI G n v) H
theorem zEl.ext0 {G : zG} {x g a r n : Nat} {v : Nat → Int} {H H1 : Heap} (h : zEl G x g a r n v H) (hF : zF M0 H H1) : zEl G x g a r n v H1 := ⟨h.1.ext0 hF, h.2.ext0 hF⟩
theorem zII_congr {G : zG} {a n : Nat} {f f' : Nat → Option Nat} {H : Heap} (h : zAt G a (zII G n f) H) (hf : ∀ j, j < n → f j = f' j) : zAt G a (zII G n f') H := by
  have h1 : H[a]? = some (vp_cell (G.2 4) (n, .inr (.inr (.inr (.inr f))))) := h
  show H[a]? = some (vp_cell (G.2 4) (n, .inr (.inr (.inr (.inr f')))))
  rw [h1, vp_cell_q, vp_cell_q]
  congr 1
  exact arrV_congr (fun j hj => by rw [hf j hj])
theorem zmul6 {k z w : Int} (hk : 1 ≤ k ∧ k ≤ w) (hb : -1000 ≤ z ∧ z ≤ 1000) (hw : w ≤ 6 := by omega) : -6000 ≤ k * z ∧ k * z ≤ 6000 := by
  have h : k = 1 ∨ k = 2 ∨ k = 3 ∨ k = 4 ∨ k = 5 ∨ k = 6 := by omega
  rcases h with rfl | rfl | rfl | rfl | rfl | rfl <;> omega
theorem zmulb {t z p : Int} (ht : -10 ≤ t ∧ t ≤ 10) (hz : 0 ≤ z ∧ z < p) (hp : 0 < p ∧ p ≤ 7) : -70 ≤ t * z ∧ t * z ≤ 70 := by
  have h : z = 0 ∨ z = 1 ∨ z = 2 ∨ z = 3 ∨ z = 4 ∨ z = 5 ∨ z = 6 := by omega
  rcases h with rfl | rfl | rfl | rfl | rfl | rfl | rfl <;> omega
/-- what is written into an element's cell changes no algebra -/
theorem zAg.extq {l : Launch} {s0 : State} {G : zG} {x g : Nat} {p : Int} {d n kd : Nat} {dv : Nat → Int} {sg : Nat → Nat → Int} {H H1 : Heap} {q : Nat} {fs : List Value} (h : zAg G x g p d n kd dv sg H) (hE : zE l s0 G) (h0 : zAt G q (zOb 6 fs) H) (hF : zF (fun z => z = q) H H1) : zAg G x g p d n kd dv sg H1 := by
  obtain ⟨la, le, dr, kn, sm, dl, da, ml, so, dm, ro, h1, h2, h3, h4, h5, h6⟩ := h
  refine ⟨la, le, dr, kn, sm, dl, da, ml, so, dm, ro, h1.ext hF (z_noCls hE (ci := 0) (cj := 6) rfl rfl (by decide) h1 h0), h2.ext hF (z_noCls hE (ci := 4) (cj := 6) rfl rfl (by decide) h2 h0), h3.ext hF (z_noCls hE (ci := 8) (cj := 6) rfl rfl (by decide) h3.1 h0) (fun hne => ?_), h4.ext hF (Ne.symm (z_noArr hE (ci := 6) (t := 4) rfl h0 rfl h4)), fun i hi => (h5 i hi).ext hF (Ne.symm (z_noArr hE (ci := 6) (t := 0) rfl h0 rfl (h5 i hi))), h6⟩
  rcases h3.2 with z | z
  · exact absurd z.1 hne
  · exact Ne.symm (z_noArr hE (ci := 6) (t := 3) rfl h0 rfl z.2.2)
