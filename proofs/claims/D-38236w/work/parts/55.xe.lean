/-! ROW: floats to longs; quarters cut to whole numbers -/
set_option maxRecDepth 100000
section ROWS9
variable {p : Program} {l : Launch} {e : Env} {R : Room} {s : State} {m : MethodId} {args : Array Value} {below : List Frame} {meth : Method} {c : Code} {H : Heap} {locs : List Loc} {cells slots : Nat} {Q : State → Prop}
variable {cc : ByteArray} {pc : Nat} {ls : Array Slot} {rest : List Value}
theorem z_f2l (hexec : p.tables.exec = Jvm.exec) (hb : c.code = cc) {x : UInt32} (hdg : decode cc pc = .ok (.f2l, 1))
    (k : W p l e R s m args below meth c H locs cells slots Q (F0 m (pc + 1) ls (.long (FP.f2l x) :: rest))) : W p l e R s m args below meth c H locs cells slots Q (F0 m pc ls (.float x :: rest)) := by
  intro T hT X
  obtain ⟨t, a, b⟩ := k T hT X
  refine ⟨t, ?_, b⟩
  jvm_step X.here [X.here.top, hexec, hb, hdg]
  exact a
end ROWS9
theorem fqL_all : ∀ k : Nat, k < 700 → ((FP.f2l (fq ((k : Int) - 350))).toInt32 == iI (Int.tdiv ((k : Int) - 350) 4)) = true := by decide +kernel
theorem fq_L {z : Int} (h : -350 ≤ z ∧ z < 350) : (FP.f2l (fq z)).toInt32 = iI (Int.tdiv z 4) := by
  have := fqL_all (z + 350).toNat (by omega)
  rw [show (((z + 350).toNat : Nat) : Int) - 350 = z by omega] at this
  exact eq_of_beq this
