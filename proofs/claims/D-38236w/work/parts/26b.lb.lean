/-! PLAIN LAW: columns that stand on those ahead of them; what kills -/
def freeCol (p : Int) (n : Nat) (M : Nat → Nat → Int) (c : Nat) : Prop := ∃ w : Nat → Int, w c = 1 ∧ (∀ k, c < k → k < n → w k = 0) ∧ ∀ i, i < n → dt n (M i) w % p = 0
noncomputable def rkM (p : Int) (n : Nat) (M : Nat → Nat → Int) : Nat := cnt (fun c => @ite Int (freeCol p n M c) (Classical.propDecidable _) (-1) 0) n
def kerV (p : Int) (n : Nat) (M : Nat → Nat → Int) (c : Nat) (w : Nat → Int) : Prop := w c = 1 ∧ (∀ k, c < k → k < n → w k = 0) ∧ rw_ok p n w ∧ ∀ i, i < n → dt n (M i) w % p = 0
theorem cnt_iff {ld ld' : Nat → Int} : ∀ {c : Nat}, (∀ k, k < c → (ld k = -1 ↔ ld' k = -1)) → cnt ld c = cnt ld' c
  | 0, _ => rfl
  | c + 1, h => by
    simp only [cnt]
    rw [cnt_iff (fun k hk => h k (by omega))]
    by_cases e : ld c = -1
    · rw [if_pos e, if_pos ((h c (by omega)).mp e)]
    · rw [if_neg e, if_neg (fun z => e ((h c (by omega)).mpr z))]
theorem rkM_eq {p : Int} {n : Nat} {M : Nat → Nat → Int} {ld : Nat → Int} (h : ∀ c, c < n → (ld c = -1 ↔ freeCol p n M c)) : cnt ld n = rkM p n M := by
  unfold rkM
  refine cnt_iff (fun k hk => ?_)
  rw [h k hk]
  by_cases e : freeCol p n M k
  · simp [e]
  · simp [e]
theorem cnt_hit {ld : Nat → Int} {i : Nat} : ∀ {c : Nat}, i < cnt ld c → ∃ k, k < c ∧ ld k ≠ -1 ∧ cnt ld k = i
  | 0, h => absurd h (Nat.not_lt_zero i)
  | c + 1, h => by
    simp only [cnt] at h
    by_cases e : i < cnt ld c
    · obtain ⟨k, h1, h2, h3⟩ := cnt_hit e; exact ⟨k, by omega, h2, h3⟩
    · split at h
      · omega
      · rename_i hn; exact ⟨c, by omega, hn, by omega⟩
theorem cnt_lt {ld : Nat → Int} {a b : Nat} (h : a < b) (hl : ld a ≠ -1) : cnt ld a < cnt ld b := by
  have := cnt_mono ld (show a + 1 ≤ b from h)
  simp only [cnt, if_neg hl] at this
  omega
/-- the vector that shows a column to stand on those ahead -/
def kvV (p : Int) (F : Nat → Nat → Int) (ld : Nat → Int) (c k : Nat) : Int := if k = c then 1 else if k < c ∧ ld k ≠ -1 then (-(F (cnt ld k) c)) % p else 0
theorem sm_two {f : Nat → Int} {a c : Nat} : ∀ {n : Nat}, a < c → c < n → (∀ k, k < n → k ≠ a → k ≠ c → f k = 0) → sm n f = f a + f c
  | 0, _, h, _ => absurd h (Nat.not_lt_zero c)
  | n + 1, h1, h2, h0 => by
    simp only [sm]
    by_cases e : c = n
    · subst e; rw [sm_one (c := a) h1 (fun k hk hn => h0 k (by omega) hn (by omega))]
    · rw [sm_two h1 (by omega) (fun k hk => h0 k (by omega)), h0 n (by omega) (by omega) (Ne.symm e)]; omega
theorem slInv.ker {p : Int} {n : Nat} {M F : Nat → Nat → Int} {ld : Nat → Int} {nx c : Nat} (hp : pr357 p) (h : slInv p n M F ld nx n) (hc : c < n) (hf : ld c = -1) : kerV p n M c (kvV p F ld c) := by
  obtain ⟨h1, h2, h3, h4, h5, h6⟩ := h
  refine ⟨by unfold kvV; rw [if_pos rfl], fun k hk _ => by unfold kvV; rw [if_neg (by omega), if_neg (by omega)], fun k hk => ?_, (h2 _).mpr (fun i hi => ?_)⟩
  · unfold kvV
    split
    · rcases hp with rfl | rfl | rfl <;> decide
    · split
      · exact md_in hp _
      · rcases hp with rfl | rfl | rfl <;> decide
  · unfold dt
    rcases Nat.lt_or_ge i (cnt ld c) with hlt | hge
    · obtain ⟨k0, a1, a2, a3⟩ := cnt_hit hlt
      rw [sm_two (a := k0) (c := c) a1 hc (fun k hk n1 n2 => ?_)]
      · rw [h5 k0 (by omega) a2 i hi, if_pos a3.symm]
        have e1 : kvV p F ld c k0 = (-(F i c)) % p := by unfold kvV; rw [if_neg (by omega), if_pos ⟨a1, a2⟩, a3]
        have e2 : kvV p F ld c c = 1 := by unfold kvV; rw [if_pos rfl]
        rw [e1, e2, Int.one_mul, Int.mul_one, Int.add_emod, md_mod, ← Int.add_emod, Int.add_left_neg]
        exact Int.zero_emod p
      · unfold kvV
        rw [if_neg n2]
        split
        · rename_i hk2
          rw [h5 k hk hk2.2 i hi, if_neg (fun z => n1 ?_), Int.zero_mul]
          rcases Nat.lt_trichotomy k k0 with q | q | q
          · have := cnt_lt q hk2.2; omega
          · exact q
          · have := cnt_lt q a2; omega
        · exact Int.mul_zero _
    · rw [sm_zero (fun k hk => ?_)]
      · exact Int.zero_emod p
      · unfold kvV
        by_cases e : k = c
        · subst e; rw [h6 k hk hf i hi hge, Int.zero_mul]
        · rw [if_neg e]
          split
          · rename_i hk2
            rw [h5 k hk hk2.2 i hi, if_neg (by have := cnt_lt hk2.1 hk2.2; omega), Int.zero_mul]
          · exact Int.mul_zero _
theorem slInv.free_iff {p : Int} {n : Nat} {M F : Nat → Nat → Int} {ld : Nat → Int} {nx c : Nat} (hp : pr357 p) (h : slInv p n M F ld nx n) (hc : c < n) : ld c = -1 ↔ freeCol p n M c := by
  constructor
  · intro hf
    obtain ⟨a, b, -, d⟩ := h.ker hp hc hf
    exact ⟨_, a, b, d⟩
  · rintro ⟨w, a, b, d⟩
    obtain ⟨h1, h2, h3, h4, h5, h6⟩ := h
    rcases Decidable.em (ld c = -1) with z | z
    · exact z
    · exfalso
      have hi : cnt ld c < n := by have := cnt_le ld c; omega
      have := (h2 w).mp d (cnt ld c) hi
      unfold dt at this
      rw [sm_one (c := c) hc (fun k hk hn => ?_), h5 c hc z _ hi, if_pos rfl, a] at this
      · rcases hp with rfl | rfl | rfl <;> exact absurd this (by decide)
      · rcases Nat.lt_or_ge k c with q | q
        · by_cases e : ld k = -1
          · rw [h6 k hk e _ hi (cnt_mono ld (by omega)), Int.zero_mul]
          · rw [h5 k hk e _ hi, if_neg (by have := cnt_lt q e; omega), Int.zero_mul]
        · rw [b k (by omega) hk, Int.mul_zero]
theorem sm_sub (f g : Nat → Int) : ∀ n, sm n (fun k => f k - g k) = sm n f - sm n g
  | 0 => rfl
  | n + 1 => by simp only [sm]; rw [sm_sub f g n]; omega
/-- one such vector alone, for the first such column -/
theorem kerV_one {p : Int} {n : Nat} {M : Nat → Nat → Int} {c : Nat} {w v : Nat → Int} (hp : pr357 p) (hw : kerV p n M c w) (hv : kerV p n M c v) (hc : c < n) (hf : ∀ k, k < c → ¬ freeCol p n M k) : ∀ k, k < n → w k = v k := by
  obtain ⟨a1, a2, a3, a4⟩ := hw
  obtain ⟨b1, b2, b3, b4⟩ := hv
  have key : ∀ d j, c - j = d → j ≤ c → (∀ k, j ≤ k → k < n → w k = v k) := by
    intro d
    induction d with
    | zero =>
      intro j hj hle k hk hkn
      rcases Nat.lt_or_ge c k with q | q
      · rw [a2 k q hkn, b2 k q hkn]
      · rw [show k = c by omega, a1, b1]
    | succ d ih =>
      intro j hj hle k hk hkn
      have up := ih (j + 1) (by omega) (by omega)
      rcases Nat.lt_or_ge j k with q | q
      · exact up k q hkn
      · have ej : k = j := by omega
        subst ej
        rcases Decidable.em (w k = v k) with z | z
        · exact z
        · exfalso
          refine hf k (by omega) ?_
          have hz : (w k - v k) % p ≠ 0 := by
            have q1 := a3 k hkn
            have q2 := b3 k hkn
            intro e
            rcases Int.lt_or_le (w k) (v k) with s | s
            · have e2 : (v k - w k) % p = 0 := by rw [show v k - w k = -(w k - v k) by omega]; exact Int.emod_eq_zero_of_dvd (Int.dvd_neg.mpr (Int.dvd_of_emod_eq_zero e))
              rw [Int.emod_eq_of_lt (by omega) (by omega)] at e2; omega
            · rw [Int.emod_eq_of_lt (by omega) (by omega)] at e; omega
          obtain ⟨hi, -, -, -⟩ := iv_ex hp hz
          refine ⟨fun t => if t = k then 1 else ivS p (w k - v k) * (w t - v t), if_pos rfl, fun t ht htn => ?_, fun i hi2 => ?_⟩
          · show (if t = k then 1 else _) = _
            rw [if_neg (by omega), up t ht htn]
            simp
          · have e : dt n (M i) (fun t => if t = k then 1 else ivS p (w k - v k) * (w t - v t)) % p = sm n (fun t => ivS p (w k - v k) * (M i t * w t - M i t * v t)) % p := by
              refine sm_md (fun t ht => ?_)
              show M i t * (if t = k then 1 else ivS p (w k - v k) * (w t - v t)) % p = _
              by_cases e : t = k
              · subst e
                have e3 : (ivS p (w t - v t) * (M i t * w t - M i t * v t)) % p = (M i t * 1) % p := by rw [← Int.mul_sub, Int.mul_left_comm, ← md_mr p (M i t), hi]
                rw [if_pos rfl]
                exact e3.symm
              · rw [if_neg e, ← Int.mul_sub, Int.mul_left_comm]
            rw [e, sm_mul, sm_sub]
            have q1 := a4 i hi2
            have q2 := b4 i hi2
            unfold dt at q1 q2
            rw [Int.mul_emod, Int.sub_emod, q1, q2]
            simp
  exact fun k hk => key c 0 (by omega) (by omega) k (by omega) hk
