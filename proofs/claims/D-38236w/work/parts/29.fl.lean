/-! FLOATS: quarters are exact; ROW: a call that lands in an interface's default -/
set_option maxRecDepth 100000
/-- z quarters -/
def fq (z : Int) : UInt32 := FP.fmul 1048576000 (FP.i2f (iI z))
def n32 (r : UInt32) : Bool := decide (r &&& 0x7fffffff ≤ 0x7f800000)
theorem n32_v {r : UInt32} (h : n32 r = true) : vf_n32 r := by
  unfold n32 at h
  unfold vf_n32
  exact of_decide_eq_true h
def fqT (z : Int) : Bool := n32 (fq z) && n32 (FP.frem (fq z) 1090519040) && (if Int.tmod z 32 = 0 then decide (Op.cmpValue (FP.fcmp (FP.frem (fq z) 1090519040) FP.fconst0) .l = 0) else FP.frem (fq z) 1090519040 == fq (Int.tmod z 32))
theorem fqT_all : ∀ k : Nat, k < 1000 → fqT ((k : Int) - 500) = true := by decide +kernel
def fqS (z : Int) : Bool := (decide (Op.cmpValue (FP.fcmp (fq z) FP.fconst0) .l = 0) == decide (z = 0)) && (z == 0 || FP.fneg (fq z) == fq (-z)) && n32 (fq z)
theorem fqS_all : ∀ k : Nat, k < 70 → fqS ((k : Int) - 35) = true := by decide +kernel
theorem fq_0 : fq 0 = FP.fconst0 := by decide +kernel
theorem fq_T {z : Int} (h : -500 ≤ z ∧ z < 500) : vf_n32 (fq z) ∧ vf_n32 (FP.frem (fq z) 1090519040) ∧ (Int.tmod z 32 = 0 → Op.cmpValue (FP.fcmp (FP.frem (fq z) 1090519040) FP.fconst0) .l = 0) ∧ (Int.tmod z 32 ≠ 0 → FP.frem (fq z) 1090519040 = fq (Int.tmod z 32)) := by
  have := fqT_all (z + 500).toNat (by omega)
  rw [show (((z + 500).toNat : Nat) : Int) - 500 = z by omega] at this
  simp only [fqT, Bool.and_eq_true] at this
  refine ⟨n32_v this.1.1, n32_v this.1.2, fun e => ?_, fun e => ?_⟩
  · have h2 := this.2; rw [if_pos e] at h2; exact of_decide_eq_true h2
  · have h2 := this.2; rw [if_neg e] at h2; exact eq_of_beq h2
theorem fq_s {z : Int} (h : -35 ≤ z ∧ z < 35) : (Op.cmpValue (FP.fcmp (fq z) FP.fconst0) .l = 0 ↔ z = 0) ∧ (z ≠ 0 → FP.fneg (fq z) = fq (-z)) := by
  have := fqS_all (z + 35).toNat (by omega)
  rw [show (((z + 35).toNat : Nat) : Int) - 35 = z by omega] at this
  simp only [fqS, Bool.and_eq_true, Bool.or_eq_true, beq_iff_eq] at this
  refine ⟨?_, fun hz => this.1.2.resolve_left hz⟩
  have h1 := this.1.1
  by_cases e : z = 0
  · simp only [e, decide_true, decide_eq_true_eq] at h1 ⊢; exact ⟨fun _ => trivial, fun _ => by simpa using h1⟩
  · simp only [e, decide_false, decide_eq_false_iff_not] at h1 ⊢; exact ⟨fun z => h1 z, fun z => z.elim⟩
