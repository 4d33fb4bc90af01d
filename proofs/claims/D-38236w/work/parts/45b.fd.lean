/-! FLOATS: quarters as doubles are numbers -/
set_option maxRecDepth 100000
def n64 (r : UInt64) : Bool := decide (r &&& 0x7fffffffffffffff ≤ 0x7ff0000000000000)
theorem fq_d_all : ∀ k : Nat, k < 70 → n64 (FP.f2d (fq ((k : Int) - 35))) = true := by decide +kernel
theorem fq_d {z : Int} (h : -35 ≤ z ∧ z < 35) : vf_n64 (FP.f2d (fq z)) := by
  have := fq_d_all (z + 35).toNat (by omega)
  rw [show (((z + 35).toNat : Nat) : Int) - 35 = z by omega] at this
  unfold n64 at this
  unfold vf_n64
  exact of_decide_eq_true this
