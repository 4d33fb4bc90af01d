/-! PICTURES: lists -/
def lf (n : Nat) (c : Nat → Nat) : Nat → Option Nat := fun j => if j < n then some (c j) else none
/-- an ArrayList of n references -/
def zLs (G : zG) (lc n : Nat) (c : Nat → Nat) (arr : Nat) (md : Int) (H : Heap) : Prop := zAt G lc (zOb 8 [.int (iI md), .ref arr, .int (iI (n : Int))]) H ∧ ((arr = G.2 12 ∧ n = 0) ∨ (n ≤ 10 ∧ arr ≠ G.2 12 ∧ zAt G arr (zR G 10 (lf n c)) H))
theorem zLs.ext {G : zG} {lc n : Nat} {c : Nat → Nat} {arr : Nat} {md : Int} {M : Nat → Prop} {H H1 : Heap} (h : zLs G lc n c arr md H) (hF : zF M H H1) (h1 : ¬ M lc) (h2 : arr ≠ G.2 12 → ¬ M arr) : zLs G lc n c arr md H1 := ⟨h.1.ext hF h1, h.2.imp id (fun z => ⟨z.1, z.2.1, z.2.2.ext hF (h2 z.2.1)⟩)⟩
theorem zLs.ext0 {G : zG} {lc n : Nat} {c : Nat → Nat} {arr : Nat} {md : Int} {H H1 : Heap} (h : zLs G lc n c arr md H) (hF : zF M0 H H1) : zLs G lc n c arr md H1 := h.ext hF id (fun _ => id)
theorem zLs.n10 {G : zG} {lc n : Nat} {c : Nat → Nat} {arr : Nat} {md : Int} {H : Heap} (h : zLs G lc n c arr md H) : n ≤ 10 := by rcases h.2 with z | z <;> omega
theorem zLs.arr {G : zG} {lc n : Nat} {c : Nat → Nat} {arr : Nat} {md : Int} {H : Heap} (h : zLs G lc n c arr md H) (h0 : 0 < n) : zAt G arr (zR G 10 (lf n c)) H := by
  rcases h.2 with z | z
  · omega
  · exact z.2.2
theorem zLs.congr {G : zG} {lc n : Nat} {c d : Nat → Nat} {arr : Nat} {md : Int} {H : Heap} (h : zLs G lc n c arr md H) (hc : ∀ j, j < n → c j = d j) : zLs G lc n d arr md H := by
  have e : lf n c = lf n d := by
    funext j
    unfold lf
    split
    · rename_i hj; rw [hc j hj]
    · rfl
  rw [zLs, ← e]; exact h
theorem lf_in {n j : Nat} {c : Nat → Nat} (h : j < n) : lf n c j = some (c j) := if_pos h
theorem lf_add (n : Nat) (c : Nat → Nat) (q : Nat) : va_up (lf n c) n (some q) = lf (n + 1) (va_up c n q) := by
  funext j
  unfold va_up lf
  by_cases h : j = n
  · subst h; simp
  · by_cases h2 : j < n
    · simp [h, h2, Nat.lt_succ_of_lt h2]
    · have : ¬ j < n + 1 := by omega
      simp [h, h2, this]
theorem lf_del (n : Nat) (c : Nat → Nat) : va_up (lf (n + 1) c) n none = lf n c := by
  funext j
  unfold va_up lf
  by_cases h : j = n
  · subst h; simp
  · by_cases h2 : j < n
    · simp [h, h2, Nat.lt_succ_of_lt h2]
    · have : ¬ j < n + 1 := by omega
      simp [h, h2, this]
