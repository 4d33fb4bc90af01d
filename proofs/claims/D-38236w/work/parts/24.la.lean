/-! PLAIN LAW: rows are solved: what stays and what stands at the end -/
def dt (n : Nat) (f w : Nat → Int) : Int := sm n (fun k => f k * w k)
theorem sm_add (f g : Nat → Int) : ∀ n, sm n (fun k => f k + g k) = sm n f + sm n g
  | 0 => rfl
  | n + 1 => by simp only [sm]; rw [sm_add f g n]; omega
theorem sm_mul (a : Int) (f : Nat → Int) : ∀ n, sm n (fun k => a * f k) = a * sm n f
  | 0 => by simp [sm]
  | n + 1 => by simp only [sm]; rw [sm_mul a f n, Int.mul_add]
theorem sm_zero {f : Nat → Int} : ∀ {n : Nat}, (∀ k, k < n → f k = 0) → sm n f = 0
  | 0, _ => rfl
  | n + 1, h => by simp only [sm]; rw [sm_zero (fun k hk => h k (by omega)), h n (by omega)]; rfl
theorem sm_one {f : Nat → Int} {c : Nat} : ∀ {n : Nat}, c < n → (∀ k, k < n → k ≠ c → f k = 0) → sm n f = f c
  | 0, h, _ => absurd h (Nat.not_lt_zero c)
  | n + 1, h, h0 => by
    simp only [sm]
    by_cases e : c = n
    · subst e; rw [sm_zero (fun k hk => h0 k (by omega) (by omega))]; omega
    · rw [sm_one (by omega) (fun k hk => h0 k (by omega)), h0 n (by omega) (Ne.symm e)]; omega
/-- sums that agree modulo p place by place -/
theorem sm_md {p : Int} {f g : Nat → Int} : ∀ {n : Nat}, (∀ k, k < n → f k % p = g k % p) → sm n f % p = sm n g % p
  | 0, _ => rfl
  | n + 1, h => by
    simp only [sm]
    rw [Int.add_emod, sm_md (fun k hk => h k (by omega)), h n (by omega), ← Int.add_emod]
theorem md_mod (p a : Int) : a % p % p = a % p := Int.emod_emod_of_dvd a (Int.dvd_refl p)
theorem md_ml (p a b : Int) : (a % p * b) % p = (a * b) % p := by rw [Int.mul_emod, md_mod, ← Int.mul_emod]
theorem md_mr (p a b : Int) : (a * (b % p)) % p = (a * b) % p := by rw [Int.mul_emod, md_mod, ← Int.mul_emod]
/-- dot products with rows that agree modulo p -/
theorem dt_md {p : Int} {n : Nat} {f g w : Nat → Int} (h : ∀ k, k < n → f k % p = g k % p) : dt n f w % p = dt n g w % p :=
  sm_md (fun k hk => by rw [Int.mul_emod, h k hk, ← Int.mul_emod])
theorem dt_lin (n : Nat) (a b : Int) (f g w : Nat → Int) : dt n (fun k => a * f k + b * g k) w = a * dt n f w + b * dt n g w := by
  unfold dt
  rw [← sm_mul, ← sm_mul, ← sm_add]
  exact sm_congr (fun k _ => by rw [Int.add_mul, Int.mul_assoc, Int.mul_assoc])
def swp (a b i : Nat) : Nat := if i = a then b else if i = b then a else i
theorem swp_lt {a b i n : Nat} (ha : a < n) (hb : b < n) (hi : i < n) : swp a b i < n := by unfold swp; split; exact hb; split <;> assumption
theorem swp_swp (a b i : Nat) : swp a b (swp a b i) = i := by
  unfold swp
  by_cases h1 : i = a
  · subst h1; by_cases h2 : b = i <;> simp [h2]
  · by_cases h2 : i = b
    · subst h2; simp [h1]
    · simp [h1, h2]
/-- how many columns below c lead -/
def cnt (ld : Nat → Int) : Nat → Nat
  | 0 => 0
  | c + 1 => cnt ld c + if ld c = -1 then 0 else 1
theorem cnt_mono (ld : Nat → Int) : ∀ {a b : Nat}, a ≤ b → cnt ld a ≤ cnt ld b
  | a, 0, h => by rw [show a = 0 by omega]; exact Nat.le_refl _
  | a, b + 1, h => by
    rcases Nat.lt_or_ge b a with z | z
    · rw [show a = b + 1 by omega]; exact Nat.le_refl _
    · have := cnt_mono ld z; simp only [cnt]; omega
theorem cnt_le (ld : Nat → Int) : ∀ c, cnt ld c ≤ c
  | 0 => Nat.le_refl _
  | c + 1 => by have := cnt_le ld c; simp only [cnt]; split <;> omega
theorem cnt_congr {ld ld' : Nat → Int} : ∀ {c : Nat}, (∀ k, k < c → ld k = ld' k) → cnt ld c = cnt ld' c
  | 0, _ => rfl
  | c + 1, h => by simp only [cnt]; rw [cnt_congr (fun k hk => h k (by omega)), h c (by omega)]
/-- what solving keeps: the kernel of M; the columns that lead are unit columns, the others stand on those ahead of them -/
def slInv (p : Int) (n : Nat) (M F : Nat → Nat → Int) (ld : Nat → Int) (nx col : Nat) : Prop :=
  (∀ i k, i < n → k < n → 0 ≤ F i k ∧ F i k < p) ∧
  (∀ w : Nat → Int, (∀ i, i < n → dt n (M i) w % p = 0) ↔ (∀ i, i < n → dt n (F i) w % p = 0)) ∧
  nx = cnt ld col ∧ (∀ c, c < col → ld c = -1 ∨ ld c = cnt ld c) ∧
  (∀ c, c < col → ld c ≠ -1 → ∀ i, i < n → F i c = if i = cnt ld c then 1 else 0) ∧
  (∀ c, c < col → ld c = -1 → ∀ i, i < n → cnt ld c ≤ i → F i c = 0)
theorem slInv.start {p : Int} {n : Nat} {M F : Nat → Nat → Int} {ld : Nat → Int} (h : ∀ i k, i < n → k < n → 0 ≤ F i k ∧ F i k < p) (hM : ∀ i k, i < n → k < n → M i k = F i k) : slInv p n M F ld 0 0 := by
  refine ⟨h, fun w => ?_, rfl, fun c h => absurd h (Nat.not_lt_zero c), fun c h => absurd h (Nat.not_lt_zero c), fun c h => absurd h (Nat.not_lt_zero c)⟩
  refine forall_congr' (fun i => forall_congr' (fun hi => ?_))
  rw [dt_md (g := F i) (fun k hk => by rw [hM i k hi hk])]
theorem slInv.free {p : Int} {n : Nat} {M F : Nat → Nat → Int} {ld ld' : Nat → Int} {nx col : Nat} (h : slInv p n M F ld nx col) (h0 : ∀ i, nx ≤ i → i < n → F i col = 0) (e1 : ld' col = -1) (e2 : ∀ c, c < col → ld' c = ld c) : slInv p n M F ld' nx (col + 1) := by
  obtain ⟨h1, h2, h3, h4, h5, h6⟩ := h
  have hc : ∀ c, c ≤ col → cnt ld' c = cnt ld c := fun c hc => cnt_congr (fun k hk => e2 k (by omega))
  have hs : cnt ld' (col + 1) = cnt ld col := by simp only [cnt]; rw [hc col (Nat.le_refl _), if_pos e1]; rfl
  refine ⟨h1, h2, by rw [hs]; exact h3, fun c hcc => ?_, fun c hcc hn i hi => ?_, fun c hcc hn i hi hle => ?_⟩
  · by_cases e : c = col
    · subst e; exact Or.inl e1
    · rw [e2 c (by omega), hc c (by omega)]; exact h4 c (by omega)
  · by_cases e : c = col
    · subst e; exact absurd e1 hn
    · rw [e2 c (by omega)] at hn; rw [hc c (by omega)]; exact h5 c (by omega) hn i hi
  · by_cases e : c = col
    · subst e; rw [hc c (Nat.le_refl _), ← h3] at hle; exact h0 i hle hi
    · rw [e2 c (by omega)] at hn; rw [hc c (by omega)] at hle; exact h6 c (by omega) hn i hi hle
/-- one column made to lead: F2 has row at in place nx, F' is solved by it -/
def slF (p : Int) (F2 : Nat → Nat → Int) (nx col i k : Nat) : Int :=
  if i = nx then (ivS p (F2 nx col) * F2 nx k) % p
  else if F2 i col = 0 then F2 i k else (F2 i k - F2 i col * ((ivS p (F2 nx col) * F2 nx k) % p)) % p
theorem slInv.lead {p : Int} {n : Nat} {M F F2 F' : Nat → Nat → Int} {ld ld' : Nat → Int} {nx at_ col : Nat} (hp : pr357 p) (h : slInv p n M F ld nx col) (hcol : col < n) (ha : nx ≤ at_ ∧ at_ < n) (hne : F at_ col ≠ 0) (hF2 : ∀ i, F2 i = F (swp nx at_ i))
    (hF' : ∀ i k, i < n → k < n → F' i k = slF p F2 nx col i k) (e1 : ld' col = nx) (e2 : ∀ c, c < col → ld' c = ld c) : slInv p n M F' ld' (nx + 1) (col + 1) := by
  obtain ⟨h1, h2, h3, h4, h5, h6⟩ := h
  have hnx : nx < n := by omega
  have hc : ∀ c, c ≤ col → cnt ld' c = cnt ld c := fun c hc => cnt_congr (fun k hk => e2 k (by omega))
  have hs : cnt ld' (col + 1) = nx + 1 := by simp only [cnt]; rw [hc col (Nat.le_refl _), if_neg (by omega), h3]
  have h1' : ∀ i k, i < n → k < n → 0 ≤ F2 i k ∧ F2 i k < p := fun i k hi hk => by rw [hF2]; exact h1 _ k (swp_lt hnx ha.2 hi) hk
  have hn2 : F2 nx = F at_ := by rw [hF2]; unfold swp; rw [if_pos rfl]
  have hz : F2 nx col % p ≠ 0 := by rw [hn2, md_le hp (h1 at_ col ha.2 hcol)]; exact hne
  obtain ⟨hv, hv1, hv2, -⟩ := iv_ex hp hz
  generalize hiv : ivS p (F2 nx col) = iv at hv hv1 hv2
  have hff : ∀ i k, i < n → k < n → F' i k = if i = nx then (iv * F2 nx k) % p else if F2 i col = 0 then F2 i k else (F2 i k - F2 i col * ((iv * F2 nx k) % p)) % p := fun i k hi hk => by rw [hF' i k hi hk, slF, hiv]
  -- F2 and F have one kernel
  have k2 : ∀ w : Nat → Int, (∀ i, i < n → dt n (F i) w % p = 0) ↔ (∀ i, i < n → dt n (F2 i) w % p = 0) := by
    intro w
    constructor
    · intro z i hi; rw [hF2]; exact z _ (swp_lt hnx ha.2 hi)
    · intro z i hi
      have := z (swp nx at_ i) (swp_lt hnx ha.2 hi)
      rw [hF2, swp_swp] at this; exact this
  -- F' is made of F2
  have dn : ∀ w : Nat → Int, dt n (F' nx) w % p = (iv * dt n (F2 nx) w) % p := by
    intro w
    have e : dt n (F' nx) w % p = dt n (fun k => iv * F2 nx k + 0 * F2 nx k) w % p := dt_md (fun k hk => by rw [hff nx k hnx hk, if_pos rfl, md_mod, Int.zero_mul, Int.add_zero])
    rw [e, dt_lin, Int.zero_mul, Int.add_zero]
  have di : ∀ (w : Nat → Int) (i : Nat), i < n → i ≠ nx → dt n (F' i) w % p = (dt n (F2 i) w - F2 i col * (iv * dt n (F2 nx) w)) % p := by
    intro w i hi hin
    have e : dt n (F' i) w % p = dt n (fun k => 1 * F2 i k + (-(F2 i col * iv)) * F2 nx k) w % p := dt_md (fun k hk => by
      rw [hff i k hi hk, if_neg hin]
      split
      · rename_i h0; rw [h0]; simp
      · rw [md_mod, Int.sub_emod, md_mr, ← Int.sub_emod]
        congr 1
        rw [Int.one_mul, Int.neg_mul, Int.mul_assoc, Int.sub_eq_add_neg])
    rw [e, dt_lin, Int.one_mul, Int.neg_mul, Int.mul_assoc, ← Int.sub_eq_add_neg]
  have s0 : ∀ {a b : Int}, a % p = 0 → b % p = 0 → (a - b) % p = 0 := fun ha hb => by rw [Int.sub_emod, ha, hb]; rfl
  have m0 : ∀ {a b : Int}, b % p = 0 → (a * b) % p = 0 := fun hb => by rw [Int.mul_emod, hb, Int.mul_zero]; rfl
  have k3 : ∀ w : Nat → Int, (∀ i, i < n → dt n (F2 i) w % p = 0) ↔ (∀ i, i < n → dt n (F' i) w % p = 0) := by
    intro w
    constructor
    · intro z i hi
      by_cases e : i = nx
      · subst e; rw [dn]; exact m0 (z _ hi)
      · rw [di w i hi e]; exact s0 (z i hi) (m0 (m0 (z nx hnx)))
    · intro z
      have zn : dt n (F2 nx) w % p = 0 := by
        have z1 := z nx hnx
        rw [dn] at z1
        have z2 : (F2 nx col * (iv * dt n (F2 nx) w)) % p = 0 := m0 z1
        have e : F2 nx col * (iv * dt n (F2 nx) w) = (iv * F2 nx col) * dt n (F2 nx) w := by rw [← Int.mul_assoc, Int.mul_comm (F2 nx col) iv]
        rw [e, ← md_ml, hv, Int.one_mul] at z2
        exact z2
      intro i hi
      by_cases e : i = nx
      · subst e; exact zn
      · have z1 := z i hi
        rw [di w i hi e] at z1
        have z2 : (F2 i col * (iv * dt n (F2 nx) w)) % p = 0 := m0 (m0 zn)
        rw [Int.sub_emod, z2, Int.sub_zero, md_mod] at z1
        exact z1
  have hcn : ∀ c, c < col → ld c ≠ -1 → cnt ld c < nx := fun c hcc hn => by
    have := cnt_mono ld (show c + 1 ≤ col by omega)
    simp only [cnt, if_neg hn] at this
    omega
  have hcf : ∀ c, c < col → cnt ld c ≤ nx := fun c hcc => by rw [h3]; exact cnt_mono ld (by omega)
  refine ⟨fun i k hi hk => ?_, fun w => (h2 w).trans ((k2 w).trans (k3 w)), hs.symm, fun c hcc => ?_, fun c hcc hn i hi => ?_, fun c hcc hn i hi hle => ?_⟩
  · rw [hff i k hi hk]
    split
    · exact md_in hp _
    · split
      · exact h1' i k hi hk
      · exact md_in hp _
  · by_cases e : c = col
    · subst e; right; rw [hc c (Nat.le_refl _), e1, h3]
    · rw [e2 c (by omega), hc c (by omega)]; exact h4 c (by omega)
  · by_cases e : c = col
    · subst e
      rw [hc c (Nat.le_refl _), ← h3, hff i c hi hcol]
      by_cases ei : i = nx
      · subst ei; rw [if_pos rfl, if_pos rfl, hv]
      · rw [if_neg ei, if_neg ei]
        split
        · assumption
        · rw [hv, Int.mul_one, Int.sub_self]; rfl
    · rw [e2 c (by omega)] at hn
      rw [hc c (by omega), hff i c hi (by omega)]
      have hr := hcn c (by omega) hn
      have hu : ∀ i, i < n → F2 i c = if i = cnt ld c then 1 else 0 := by
        intro i hi
        rw [hF2, h5 c (by omega) hn _ (swp_lt hnx ha.2 hi)]
        unfold swp
        by_cases a1 : i = nx
        · rw [if_pos a1, if_neg (by omega), if_neg (by omega)]
        · rw [if_neg a1]
          by_cases a2 : i = at_
          · rw [if_pos a2, if_neg (by omega), if_neg (by omega)]
          · rw [if_neg a2]
      have h0 : F2 nx c = 0 := by rw [hu nx hnx, if_neg (by omega)]
      rw [h0, Int.mul_zero, Int.zero_emod, Int.mul_zero, Int.sub_zero, hu i hi]
      by_cases ei : i = nx
      · rw [if_pos ei, if_neg (by omega)]
      · rw [if_neg ei]
        split
        · rfl
        · split
          · rcases hp with rfl | rfl | rfl <;> rfl
          · exact Int.zero_emod p
  · by_cases e : c = col
    · subst e; rw [e1] at hn; omega
    · rw [e2 c (by omega)] at hn
      rw [hc c (by omega)] at hle
      have hr := hcf c (by omega)
      have hu : ∀ i, i < n → cnt ld c ≤ i → F2 i c = 0 := by
        intro i hi hle
        rw [hF2]
        refine h6 c (by omega) hn _ (swp_lt hnx ha.2 hi) ?_
        unfold swp
        split
        · omega
        · split <;> omega
      rw [hff i c hi (by omega), hu nx hnx hr, Int.mul_zero, Int.zero_emod, Int.mul_zero, Int.sub_zero, hu i hi hle, Int.zero_emod]
      split
      · rfl
      · split <;> rfl
