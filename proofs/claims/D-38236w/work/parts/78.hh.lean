/-! PLAIN LAW: columns freed one after the other -/
set_option maxRecDepth 100000
/-- each column is a sum of the matrix's, by its row of ways -/
def fcA (p : Int) (n : Nat) (M C W : Nat → Nat → Int) : Prop := ∀ r, r < n → (W r r = 1 ∧ (∀ c, r < c → c < n → W r c = 0) ∧ rw_ok p n (W r)) ∧ rw_ok p n (C r) ∧ ∀ i, i < n → C r i % p = dt n (M i) (W r) % p
/-- the first k columns: where they begin -/
def fcB (n : Nat) (C : Nat → Nat → Int) (f : Nat → Int) (k : Nat) : Prop := (∀ r, r < k → f r = -1 ∨ (0 ≤ f r ∧ f r < n)) ∧ (∀ r, r < k → f r = -1 → ∀ i, i < n → C r i = 0) ∧ (∀ r, r < k → f r ≠ -1 → C r (f r).toNat ≠ 0) ∧ ∀ r s, r < s → s < k → f r ≠ -1 → C s (f r).toNat = 0
def fcD (C : Nat → Nat → Int) (f : Nat → Int) (k r : Nat) : Prop := ∀ s, s < r → f s ≠ -1 → C k (f s).toNat = 0
def ltV (p t : Int) (v w : Nat → Int) : Nat → Int := fun i => (v i - t * w i) % p
def upR (F : Nat → Nat → Int) (k : Nat) (v : Nat → Int) : Nat → Nat → Int := fun j => if j = k then v else F j
theorem upR_k {F : Nat → Nat → Int} {k : Nat} {v : Nat → Int} : upR F k v k = v := if_pos rfl
theorem upR_o {F : Nat → Nat → Int} {k j : Nat} {v : Nat → Int} (h : j ≠ k) : upR F k v j = F j := if_neg h
theorem ltV_ok {p : Int} (hp : pr357 p) (n : Nat) (t : Int) (v w : Nat → Int) : rw_ok p n (ltV p t v w) := fun _ _ => md_in hp _
def eyeV (r c : Nat) : Int := if c = r then 1 else 0
theorem dt_eye {n r : Nat} {f : Nat → Int} (h : r < n) : dt n f (eyeV r) = f r := by
  unfold dt
  rw [sm_one (f := fun k => f k * eyeV r k) h (fun k _ hk => by simp [eyeV, hk])]
  simp [eyeV]
theorem fcA.start {p : Int} {n : Nat} {M C : Nat → Nat → Int} (hp : pr357 p) (h : ∀ r, r < n → rw_ok p n (C r)) (hM : ∀ r i, r < n → i < n → C r i = M i r) : fcA p n M C eyeV := by
  intro r hr
  have h1 : (1 : Int) < p := by rcases hp with e | e | e <;> rw [e] <;> decide
  refine ⟨⟨by simp [eyeV], fun c hc _ => by simp [eyeV]; omega, fun c _ => by unfold eyeV; split <;> omega⟩, h r hr, fun i hi => ?_⟩
  rw [dt_eye hr, hM r i hr hi]
theorem sm_lin {a : Int} {f g : Nat → Int} : ∀ n, sm n (fun k => f k - a * g k) = sm n f - a * sm n g
  | 0 => by simp [sm]
  | n + 1 => by
    simp only [sm]
    rw [sm_lin n, Int.mul_add]
    omega
theorem dt_less (n : Nat) (f v w : Nat → Int) (t : Int) : dt n f (fun k => v k - t * w k) = dt n f v - t * dt n f w := by
  unfold dt
  rw [← sm_lin]
  congr 1
  funext k
  rw [Int.mul_sub, Int.mul_left_comm]
theorem dt_modw {p : Int} {n : Nat} {f v : Nat → Int} : dt n f (fun k => v k % p) % p = dt n f v % p := sm_md (fun k _ => md_mr p (f k) (v k))
theorem sub_md {p a b c d : Int} (h1 : a % p = c % p) (h2 : b % p = d % p) : (a - b) % p = (c - d) % p := by rw [Int.sub_emod, h1, h2, ← Int.sub_emod]
theorem fcA.step {p : Int} {n : Nat} {M C W : Nat → Nat → Int} {r k : Nat} {t : Int} (hp : pr357 p) (h : fcA p n M C W) (hr : r < k) (hk : k < n) : fcA p n M (upR C k (ltV p t (C k) (C r))) (upR W k (ltV p t (W k) (W r))) := by
  intro s hs
  by_cases e : s = k
  · subst e
    rw [upR_k, upR_k]
    obtain ⟨⟨a1, a2, a3⟩, a4, a5⟩ := h s hs
    obtain ⟨⟨b1, b2, b3⟩, b4, b5⟩ := h r (by omega)
    have h1 : (1 : Int) % p = 1 := by rcases hp with e | e | e <;> rw [e] <;> decide
    refine ⟨⟨?_, fun c hc hc2 => ?_, ltV_ok hp _ _ _ _⟩, ltV_ok hp _ _ _ _, fun i hi => ?_⟩
    · show (W s s - t * W r s) % p = 1
      rw [a1, b2 s hr hs, Int.mul_zero, Int.sub_zero, h1]
    · show (W s c - t * W r c) % p = 0
      rw [a2 c hc hc2, b2 c (by omega) hc2, Int.mul_zero, Int.sub_zero, Int.zero_emod]
    · have e1 : dt n (M i) (ltV p t (W s) (W r)) % p = dt n (M i) (fun c => W s c - t * W r c) % p := dt_modw
      rw [e1, dt_less]
      show (C s i - t * C r i) % p % p = _
      rw [md_mod]
      exact sub_md (a5 i hi) (by rw [Int.mul_emod, b5 i hi, ← Int.mul_emod])
  · rw [upR_o e, upR_o e]
    exact h s hs
theorem fcD.skip {C : Nat → Nat → Int} {f : Nat → Int} {k r : Nat} (h : fcD C f k r) (hf : f r = -1) : fcD C f k (r + 1) := fun s hs hn => by
  by_cases e : s = r
  · subst e; exact absurd hf hn
  · exact h s (by omega) hn
theorem fcD.step {p : Int} {n : Nat} {C : Nat → Nat → Int} {f : Nat → Int} {k r : Nat} (hp : pr357 p) (h : fcD C f k r) (hb : fcB n C f k) (hC : ∀ r, r < n → rw_ok p n (C r)) (hr : r < k) (hk : k < n) (hf : f r ≠ -1) : fcD (upR C k (ltV p ((C k (f r).toNat * ivS p (C r (f r).toNat)) % p) (C k) (C r))) f k (r + 1) := by
  intro s hs hn
  rw [upR_k]
  have hfr := (hb.1 r hr).resolve_left hf
  by_cases e : s = r
  · subst e
    show (C k (f s).toNat - (C k (f s).toNat * ivS p (C s (f s).toNat)) % p * C s (f s).toNat) % p = 0
    have hz : C s (f s).toNat % p ≠ 0 := by
      rw [md_le hp (hC s (by omega) _ (by omega))]
      exact hb.2.2.1 s hr hf
    have hi := (iv_ex hp hz).1
    have e1 : (C k (f s).toNat * ivS p (C s (f s).toNat)) % p * C s (f s).toNat % p = C k (f s).toNat % p := by
      rw [md_ml, Int.mul_assoc, ← md_mr, hi, Int.mul_one]
    rw [Int.sub_emod, e1, Int.sub_self, Int.zero_emod]
  · show (C k (f s).toNat - _ * C r (f s).toNat) % p = 0
    rw [h s (by omega) hn, hb.2.2.2 s r (by omega) hr hn, Int.mul_zero, Int.sub_zero, Int.zero_emod]
theorem fcB.frame {n : Nat} {C : Nat → Nat → Int} {f : Nat → Int} {k : Nat} {v : Nat → Int} (h : fcB n C f k) : fcB n (upR C k v) f k :=
  ⟨h.1, fun r hr => by rw [upR_o (by omega)]; exact h.2.1 r hr, fun r hr => by rw [upR_o (by omega)]; exact h.2.2.1 r hr, fun r s hrs hs => by rw [upR_o (by omega)]; exact h.2.2.2 r s hrs hs⟩
theorem fcB.next {n : Nat} {C : Nat → Nat → Int} {f f' : Nat → Int} {k : Nat} (h : fcB n C f k) (hd : fcD C f k k) (hf : ∀ r, r < k → f' r = f r) (h1 : f' k = -1 ∨ (0 ≤ f' k ∧ f' k < n)) (h2 : f' k = -1 → ∀ i, i < n → C k i = 0) (h3 : f' k ≠ -1 → C k (f' k).toNat ≠ 0) : fcB n C f' (k + 1) := by
  refine ⟨fun r hr => ?_, fun r hr => ?_, fun r hr => ?_, fun r s hrs hs hn => ?_⟩
  · by_cases e : r = k
    · subst e; exact h1
    · rw [hf r (by omega)]; exact h.1 r (by omega)
  · by_cases e : r = k
    · subst e; exact h2
    · rw [hf r (by omega)]; exact h.2.1 r (by omega)
  · by_cases e : r = k
    · subst e; exact h3
    · rw [hf r (by omega)]; exact h.2.2.1 r (by omega)
  · rw [hf r (by omega)] at hn ⊢
    by_cases e : s = k
    · subst e; exact hd r hrs hn
    · exact h.2.2.2 r s hrs (by omega) hn
theorem fcB.zero {n : Nat} {C : Nat → Nat → Int} {f : Nat → Int} : fcB n C f 0 := ⟨fun _ h => absurd h (Nat.not_lt_zero _), fun _ h => absurd h (Nat.not_lt_zero _), fun _ h => absurd h (Nat.not_lt_zero _), fun _ _ _ h => absurd h (Nat.not_lt_zero _)⟩
theorem fcYes {p : Int} {n : Nat} {M C W : Nat → Nat → Int} {k : Nat} (h : fcA p n M C W) (hk : k < n) (h0 : ∀ i, i < n → C k i = 0) : kerV p n M k (W k) := by
  obtain ⟨⟨a1, a2, a3⟩, a4, a5⟩ := h k hk
  exact ⟨a1, a2, a3, fun i hi => by rw [← a5 i hi, h0 i hi, Int.zero_emod]⟩
/-- what the columns sum up to, by ways from the top -/
theorem fcA.comb {p : Int} {n : Nat} {M C W : Nat → Nat → Int} (h : fcA p n M C W) : ∀ m, m ≤ n → ∀ z : Nat → Int, (∀ c, m ≤ c → c < n → z c = 0) → ∃ u : Nat → Int, (∀ i, i < n → dt n (M i) z % p = sm m (fun r => u r * C r i) % p) ∧ (0 < m → u (m - 1) = z (m - 1))
  | 0, _, z, hz => ⟨fun _ => 0, fun i hi => by
      show dt n (M i) z % p = 0 % p
      unfold dt
      rw [sm_zero (fun k hk => by rw [hz k (Nat.zero_le _) hk, Int.mul_zero])], fun h => absurd h (Nat.lt_irrefl 0)⟩
  | m + 1, hm, z, hz => by
    obtain ⟨⟨a1, a2, a3⟩, a4, a5⟩ := h m (by omega)
    obtain ⟨u, hu, -⟩ := fcA.comb h m (by omega) (fun c => z c - z m * W m c) (fun c hc hcn => by
      by_cases e : c = m
      · subst e; rw [a1, Int.mul_one, Int.sub_self]
      · rw [hz c (by omega) hcn, a2 c (by omega) hcn, Int.mul_zero, Int.sub_zero])
    refine ⟨fun r => if r = m then z m else u r, fun i hi => ?_, fun _ => ?_⟩
    · have h1 := hu i hi
      rw [dt_less] at h1
      have h2 : sm (m + 1) (fun r => (if r = m then z m else u r) * C r i) = sm m (fun r => u r * C r i) + z m * C m i := by
        simp only [sm, if_pos]
        congr 1
        exact sm_congr (fun j hj => by rw [if_neg (by omega)])
      rw [h2, Int.add_emod, ← h1, ← Int.add_emod]
      have h3 : (z m * C m i) % p = (z m * dt n (M i) (W m)) % p := by rw [Int.mul_emod, a5 i hi, ← Int.mul_emod]
      rw [Int.add_emod, h3, ← Int.add_emod]
      congr 1
      omega
    · show (if m + 1 - 1 = m then z m else u (m + 1 - 1)) = z (m + 1 - 1)
      rw [Nat.add_sub_cancel, if_pos rfl]
theorem md_prime {p a b : Int} (hp : pr357 p) (h : (a * b) % p = 0) (hb : b % p ≠ 0) : a % p = 0 := by
  have hi := (iv_ex hp hb).1
  have h1 : (a * b * ivS p b) % p = 0 := by rw [Int.mul_emod, h, Int.zero_mul, Int.zero_emod]
  rw [Int.mul_assoc, Int.mul_comm b, ← md_mr, hi, Int.mul_one] at h1
  exact h1
theorem sm_onemd {p : Int} {f : Nat → Int} {c : Nat} : ∀ {n : Nat}, c < n → (∀ k, k < n → k ≠ c → f k % p = 0) → sm n f % p = f c % p := by
  intro n hc h
  have h1 : sm n f % p = sm n (fun k => if k = c then f c else 0) % p := sm_md (fun k hk => by
    by_cases e : k = c
    · subst e; rw [if_pos rfl]
    · rw [if_neg e, h k hk e, Int.zero_emod])
  rw [h1, sm_one (f := fun k => if k = c then f c else 0) hc (fun k _ hk => if_neg hk), if_pos rfl]
theorem fcNot {p : Int} {n : Nat} {M C W : Nat → Nat → Int} {f : Nat → Int} {k : Nat} (hp : pr357 p) (h : fcA p n M C W) (hb : fcB n C f (k + 1)) (hk : k < n) (hf : f k ≠ -1) : ¬ freeCol p n M k := by
  rintro ⟨z, z1, z2, z3⟩
  obtain ⟨u, hu, ht⟩ := h.comb (k + 1) (by omega) z (fun c hc hcn => z2 c (by omega) hcn)
  have ht := ht (Nat.succ_pos k)
  rw [Nat.add_sub_cancel] at ht
  have key : ∀ r, r < k + 1 → f r ≠ -1 → u r % p = 0 := by
    intro r
    induction r using Nat.strongRecOn with
    | ind r ih =>
      intro hr hfr
      have hfi := (hb.1 r hr).resolve_left hfr
      have h1 := hu (f r).toNat (by omega)
      rw [z3 (f r).toNat (by omega), sm_onemd (f := fun s => u s * C s (f r).toNat) hr (fun s hs hsr => by
        by_cases e : s < r
        · by_cases e2 : f s = -1
          · rw [hb.2.1 s hs e2 _ (by omega), Int.mul_zero, Int.zero_emod]
          · rw [← md_ml, ih s e hs e2, Int.zero_mul, Int.zero_emod]
        · rw [hb.2.2.2 r s (by omega) hs hfr, Int.mul_zero, Int.zero_emod])] at h1
      refine md_prime hp h1.symm ?_
      rw [md_le hp ((h r (by omega)).2.1 _ (by omega))]
      exact hb.2.2.1 r hr hfr
  have h2 := key k (by omega) hf
  rw [ht, z1] at h2
  rcases hp with e | e | e <;> rw [e] at h2 <;> simp at h2
