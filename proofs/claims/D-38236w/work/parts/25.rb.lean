/-! ROWS: two rows of an array change places -/
theorem va_D.reindex {A : Nat → Prop} {ws ws' : va_W} (h : va_D A ws) (σ : Nat → Nat) (hσ : ∀ i j, i < ws'.length → j < ws'.length → σ i = σ j → i = j) (hm : ∀ (j : Nat) (x : Nat × va_E), ws'[j]? = some x → ∃ y, ws[σ j]? = some y ∧ y.1 = x.1) : va_D A ws' := by
  refine ⟨fun i j x y hi hj e => ?_, fun k q hk => ?_⟩
  · obtain ⟨x', a1, a2⟩ := hm i x hi
    obtain ⟨y', b1, b2⟩ := hm j y hj
    exact hσ i j (List.getElem?_eq_some_iff.mp hi).1 (List.getElem?_eq_some_iff.mp hj).1 (h.1 _ _ _ _ a1 b1 (by rw [a2, b2, e]))
  · obtain ⟨y, a1, a2⟩ := hm k q hk
    rw [← a2]; exact h.2 _ _ a1
theorem z_rebase {G : zG} {A : Nat → Prop} {H : Heap} {q n a b : Nat} {f : Nat → Option Nat} {ro : Nat → Nat} {F : Nat → Nat → Int} {pre : va_W} (ha : a < n) (hb : b < n) (hf : ∀ i, i < n → f i = some (ro (swp a b i)))
    (hP : va_P G.1 zCl (((q, zII G n f) :: pre) ++ (zRows G n n ro F ++ [])) H) (hD : va_D A (((q, zII G n f) :: pre) ++ (zRows G n n ro F ++ []))) :
    ∃ (ro2 : Nat → Nat) (F2 : Nat → Nat → Int), (∀ i, ro2 i = ro (swp a b i)) ∧ (∀ i, F2 i = F (swp a b i)) ∧ va_P G.1 zCl (((q, zII G n (fun i => some (ro2 i))) :: pre) ++ (zRows G n n ro2 F2 ++ [])) H ∧ va_D A (((q, zII G n (fun i => some (ro2 i))) :: pre) ++ (zRows G n n ro2 F2 ++ [])) := by
  rw [List.append_nil] at hP hD
  refine ⟨fun i => ro (swp a b i), fun i => F (swp a b i), fun _ => rfl, fun _ => rfl, ?_, ?_⟩ <;> rw [List.append_nil]
  · intro k x hk
    rcases Nat.lt_or_ge k (pre.length + 1) with h | h
    · rw [List.getElem?_append_left (by simpa using h)] at hk
      cases k with
      | zero =>
        cases hk
        have h0 := hP 0 (q, zII G n f) rfl
        exact zII_congr (G := G) h0 hf
      | succ k =>
        exact hP (k + 1) x (by rw [List.getElem?_append_left (by simpa using h)]; exact hk)
    · rw [List.getElem?_append_right (by simpa using h)] at hk
      obtain ⟨hi, rfl⟩ := zRows_inv hk
      exact hP ((pre.length + 1) + swp a b (k - ((q, zII G n (fun i => some (ro (swp a b i)))) :: pre).length)) _ (by
        rw [List.getElem?_append_right (by simp), show pre.length + 1 + swp a b (k - ((q, zII G n (fun i => some (ro (swp a b i)))) :: pre).length) - ((q, zII G n f) :: pre).length = swp a b (k - ((q, zII G n (fun i => some (ro (swp a b i)))) :: pre).length) by simp]
        exact zRows_get (swp_lt ha hb hi))
  · refine hD.reindex (fun j => if j < pre.length + 1 then j else pre.length + 1 + swp a b (j - (pre.length + 1))) (fun i j hi hj e => ?_) (fun j x hj => ?_)
    · simp only [List.length_append, List.length_cons, zRows_len] at hi hj
      by_cases h1 : i < pre.length + 1
      · rw [if_pos h1] at e
        by_cases h2 : j < pre.length + 1
        · rw [if_pos h2] at e; exact e
        · rw [if_neg h2] at e; omega
      · rw [if_neg h1] at e
        by_cases h2 : j < pre.length + 1
        · rw [if_pos h2] at e; omega
        · rw [if_neg h2] at e
          have e2 : swp a b (i - (pre.length + 1)) = swp a b (j - (pre.length + 1)) := by omega
          have e3 := congrArg (swp a b) e2
          rw [swp_swp, swp_swp] at e3
          omega
    · by_cases h : j < pre.length + 1
      · simp only [if_pos h]
        rw [List.getElem?_append_left (by simpa using h)] at hj
        cases j with
        | zero => cases hj; exact ⟨(q, zII G n f), rfl, rfl⟩
        | succ j => exact ⟨x, by rw [List.getElem?_append_left (by simpa using h)]; exact hj, rfl⟩
      · simp only [if_neg h]
        rw [List.getElem?_append_right (by simp; omega)] at hj
        obtain ⟨hi, rfl⟩ := zRows_inv hj
        have e : j - ((q, zII G n (fun i => some (ro (swp a b i)))) :: pre).length = j - (pre.length + 1) := by simp
        rw [e] at hi ⊢
        exact ⟨_, by rw [List.getElem?_append_right (by simp), show pre.length + 1 + swp a b (j - (pre.length + 1)) - ((q, zII G n f) :: pre).length = swp a b (j - (pre.length + 1)) by simp]; exact zRows_get (swp_lt ha hb hi), rfl⟩
theorem va_P.setII {G : zG} {ws : va_W} {H : Heap} {q0 a n : Nat} {f f' : Nat → Option Nat} (hP : va_P G.1 zCl ws H) (ha : ws[q0]? = some (a, zII G n f)) (hf : ∀ j, j < n → f j = f' j) : va_P G.1 zCl (ws.set q0 (a, zII G n f')) H := by
  intro k x hk
  rw [List.getElem?_set] at hk
  split at hk
  · split at hk
    · cases hk
      exact zII_congr (G := G) (hP q0 _ ha) hf
    · cases hk
  · exact hP k x hk
