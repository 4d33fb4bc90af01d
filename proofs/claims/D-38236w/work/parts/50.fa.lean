/-! FLOATS: the sum of two quarters is the quarter of the sum -/
set_option maxRecDepth 100000
def fqW (z : Int) : Bool :=
  match FP.Core.decode FP.Core.b32 (fq z).toNat with
  | .fin s c q => z == 0 || (decide (FP.Core.signed s c * ((2 ^ (q + 25).toNat : Nat) : Int) = z * 8388608) && decide (-25 ≤ q ∧ q < -13) && (s == decide (z < 0)))
  | _ => false
def fqX (z : Int) : Bool := (FP.fadd (fq 0) (fq z) == fq z) && (FP.fadd (fq z) (fq 0) == fq z)
def fqY (z : Int) (k : Nat) : Bool := z == 0 || decide (z * 8388608 % ((2 ^ k : Nat) : Int) ≠ 0) || UInt32.ofNat (FP.Core.encode FP.Core.b32 (FP.Core.round FP.Core.b32 (.fin (decide (z < 0)) (z * 8388608 / ((2 ^ k : Nat) : Int)).natAbs ((k : Int) - 25)))) == fq z
theorem fqW_all : ∀ k : Nat, k < 700 → (fqW ((k : Int) - 350) && fqX ((k : Int) - 350)) = true := by decide +kernel
theorem fqY_all : ∀ k : Nat, k < 700 → ∀ e : Nat, e < 12 → fqY ((k : Int) - 350) e = true := by decide +kernel
theorem fq_W {z : Int} (h : -350 ≤ z ∧ z < 350) (h0 : z ≠ 0) : ∃ s c q, FP.Core.decode FP.Core.b32 (fq z).toNat = .fin s c q ∧ FP.Core.signed s c * ((2 ^ (q + 25).toNat : Nat) : Int) = z * 8388608 ∧ (-25 ≤ q ∧ q < -13) ∧ s = decide (z < 0) := by
  have := fqW_all (z + 350).toNat (by omega)
  rw [show (((z + 350).toNat : Nat) : Int) - 350 = z by omega, Bool.and_eq_true] at this
  have := this.1
  unfold fqW at this
  split at this
  · rename_i s c q e
    simp only [Bool.or_eq_true, Bool.and_eq_true, beq_iff_eq, decide_eq_true_eq, h0, false_or] at this
    exact ⟨s, c, q, e, this.1.1, this.1.2, this.2⟩
  · exact absurd this (by decide)
theorem fq_X {z : Int} (h : -350 ≤ z ∧ z < 350) : FP.fadd (fq 0) (fq z) = fq z ∧ FP.fadd (fq z) (fq 0) = fq z := by
  have := fqW_all (z + 350).toNat (by omega)
  rw [show (((z + 350).toNat : Nat) : Int) - 350 = z by omega, Bool.and_eq_true] at this
  have h2 := this.2
  simp only [fqX, Bool.and_eq_true] at h2
  exact ⟨eq_of_beq h2.1, eq_of_beq h2.2⟩
theorem fq_Y {z : Int} {k : Nat} (h : -350 ≤ z ∧ z < 350) (h0 : z ≠ 0) (hk : k < 12) {v : Int} (hv : v * ((2 ^ k : Nat) : Int) = z * 8388608) : UInt32.ofNat (FP.Core.encode FP.Core.b32 (FP.Core.round FP.Core.b32 (.fin (decide (v < 0)) v.natAbs ((k : Int) - 25)))) = fq z := by
  have := fqY_all (z + 350).toNat (by omega) k hk
  rw [show (((z + 350).toNat : Nat) : Int) - 350 = z by omega] at this
  have hp : (0 : Int) < ((2 ^ k : Nat) : Int) := by have := Nat.two_pow_pos k; omega
  have e2 : z * 8388608 / ((2 ^ k : Nat) : Int) = v := by rw [← hv]; exact Int.mul_ediv_cancel _ (by omega)
  have e1 : z * 8388608 % ((2 ^ k : Nat) : Int) = 0 := by rw [← hv]; exact Int.mul_emod_left _ _
  have e3 : decide (z < 0) = decide (v < 0) := by
    apply decide_eq_decide.mpr
    constructor
    · intro hz; apply Int.not_le.mp; intro hv0; have := Int.mul_nonneg hv0 (Int.le_of_lt hp); omega
    · intro hv0; have := Int.mul_neg_of_neg_of_pos hv0 hp; omega
  simp only [fqY, e1, e2, e3, Bool.or_eq_true, beq_iff_eq, decide_eq_true_eq, h0, ne_eq, not_true, false_or] at this
  exact this
theorem sg_mul (s : Bool) (c d : Nat) : FP.Core.signed s (c * d) = FP.Core.signed s c * (d : Int) := by
  cases s <;> simp [FP.Core.signed, Int.neg_mul]
theorem pw_add (a b : Nat) : ((2 ^ (a + b) : Nat) : Int) = ((2 ^ a : Nat) : Int) * ((2 ^ b : Nat) : Int) := by rw [Nat.pow_add, Int.natCast_mul]
theorem un_mul {s : Bool} {c : Nat} {q e : Int} (h : -25 ≤ e ∧ e ≤ q) : FP.Core.signed s (FP.Core.inUnits c q e) * ((2 ^ (e + 25).toNat : Nat) : Int) = FP.Core.signed s c * ((2 ^ (q + 25).toNat : Nat) : Int) := by
  unfold FP.Core.inUnits
  rw [sg_mul, Int.mul_assoc, ← pw_add, show (q - e).toNat + (e + 25).toNat = (q + 25).toNat by omega]
theorem fq_add {a b : Int} (ha : -350 ≤ a ∧ a < 350) (hb : -350 ≤ b ∧ b < 350) (hs : -350 ≤ a + b ∧ a + b < 350) : FP.fadd (fq a) (fq b) = fq (a + b) := by
  by_cases a0 : a = 0
  · rw [a0, Int.zero_add]; exact (fq_X hb).1
  by_cases b0 : b = 0
  · rw [b0, Int.add_zero]; exact (fq_X ha).2
  obtain ⟨s, c, q, e1, w1, r1, t1⟩ := fq_W ha a0
  obtain ⟨t, d, r, e2, w2, r2, t2⟩ := fq_W hb b0
  have hv : FP.Core.sumUnits s c q t d r (min q r) * ((2 ^ (min q r + 25).toNat : Nat) : Int) = (a + b) * 8388608 := by
    unfold FP.Core.sumUnits
    rw [Int.add_mul, un_mul (by omega), un_mul (by omega), w1, w2, Int.add_mul]
  have hp : (0 : Int) < ((2 ^ (min q r + 25).toNat : Nat) : Int) := by have := Nat.two_pow_pos (min q r + 25).toNat; omega
  show UInt32.ofNat (FP.Core.encode FP.Core.b32 (FP.Core.round FP.Core.b32 (FP.Core.exactSum (FP.Core.decode FP.Core.b32 (fq a).toNat) (FP.Core.decode FP.Core.b32 (fq b).toNat)))) = _
  rw [e1, e2]
  simp only [FP.Core.exactSum]
  generalize hV : FP.Core.sumUnits s c q t d r (min q r) = v at hv ⊢
  by_cases h0 : a + b = 0
  · have v0 : v = 0 := by
      rw [h0, Int.zero_mul] at hv
      exact (Int.mul_eq_zero.mp hv).resolve_right (by omega)
    rw [v0, h0, t1, t2]
    have hf : FP.Core.sumSign (decide (a < 0)) (decide (b < 0)) 0 = false := by
      unfold FP.Core.sumSign
      rw [if_pos rfl]
      by_cases hl : a < 0
      · rw [decide_eq_false (show ¬ b < 0 by omega), Bool.and_false]
      · rw [decide_eq_false hl, Bool.false_and]
    rw [hf]
    show UInt32.ofNat (FP.Core.encode FP.Core.b32 (FP.Core.roundRatio FP.Core.b32 false 0 1 _)) = _
    unfold FP.Core.roundRatio
    rw [if_pos rfl]
    decide +kernel
  · have hn : v ≠ 0 := fun z => h0 (by rw [z, Int.zero_mul] at hv; omega)
    have := fq_Y (k := (min q r + 25).toNat) hs h0 (by omega) hv
    rw [show (((min q r + 25).toNat : Nat) : Int) - 25 = min q r by omega] at this
    unfold FP.Core.sumSign
    rw [if_neg hn]
    exact this
