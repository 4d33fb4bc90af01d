/-! ROW: a call that lands in an interface's default -/
set_option maxRecDepth 100000
theorem z_landM {s0 s : State} {C o n d : String} {y : MethodName} {a0 a1 : Array Value} (hW : s0.WarmedH s.vm) (h1 : (Cond.sameMethod C o n d).before a0 s0 = true) (h2 : (Cond.sameMethod C o n d).before a1 s = true) (hl : (Cond.landsInDefault C ⟨C, n, d⟩ y).before a0 s0 = true) : (Cond.landsInDefault C ⟨C, n, d⟩ y).before a1 s = true := by
  obtain ⟨c1, k1, r1, b1, b2, b3, b4, b5⟩ := Cond.sameMethod_found h1
  obtain ⟨c2, k2, r2, d1, d2, d3, d4, d5⟩ := Cond.sameMethod_found h2
  have e : (s0.setVm s.vm).methodNamed? ⟨o, n, d⟩ = s0.methodNamed? ⟨o, n, d⟩ := State.methodNamed?_setVm hW.alike _
  have e2 : r2 = r1 := by
    have d5' : (s0.setVm s.vm).methodNamed? ⟨o, n, d⟩ = some r2 := d5
    rw [e, b5] at d5'
    exact (Option.some.inj d5').symm
  have hf : (s0.setVm s.vm).methodFound? C n d = s0.methodFound? C n d := by
    have d4' : (s0.setVm s.vm).methodFound? C n d = some r2 := d4
    rw [d4', b4, e2]
  have h3 := Cond.landsInDefault_setVm (args := a0) (args' := a1) (s := s0) hW.alike (cls := C) (x := ⟨C, n, d⟩) (y := y) hf
  rw [hl] at h3
  exact h3
section DF
variable {p : Program} {l : Launch} {e : Env} {R : Room} {s : State} {m : MethodId} {args : Array Value} {below : List Frame} {meth : Method} {c : Code} {H : Heap} {locs : List Loc} {cells slots : Nat}
variable {cc : ByteArray} {pc : Nat} {ls : Array Slot} {rest : List Value} {s0 : State} {G : zG} {own : String}
variable {bytes : ByteArray} {maxL nL n b : Nat} {ret : Option FieldType} {rm : Room} {As st : List Value} {M1 : Nat → Prop} {P1 : Option Value → Heap → Prop}
theorem z_runQ (h : zC p l s0 G s m args c "Versorhall$Element" cc) (hml : c.maxLocals = nL) (hls : ls.size = nL) (hM : zM l s0 yX9_quarter bytes maxL ret rm (.ref b :: As) H M1 P1) (hq : Cond.code yX9_quarter bytes maxL ret ∈ lw_all) (hn : As.length = 1) (hv : zRv s H b "Versorhall$Element") (hst : st = As.reverse ++ .ref b :: rest) (hw : (rest.map fun v => v.category).sum ≤ 8) (hR : rm.frames + 1 ≤ R.frames ∧ 8 + (maxL + 11) + rm.locals ≤ R.locals) (hf : cells + rm.cells ≤ R.cells ∧ slots + rm.slots ≤ R.slots) (d : decode cc pc = .ok (.invokevirtual 127, 3)) :
    va_Run p l e R s m args below meth c H locs cells slots rm.cells rm.slots (F0 m pc ls st) rest (zQ H M1 P1 (Value.ref b :: As).toArray) (zA M1 H) := by
  have hini := h.t _ q1962
  have hK : Back l R p e below s args yX9_quarter 3 8 (PreOf R rm.cells rm.slots (zP s0 (.ref b :: As) H)) (PostOf (zQ H M1 P1) rm.cells rm.slots (zA M1 H)) := back_of (bytes := bytes) (maxL := maxL) (ret := ret) hM zP_blind rfl rfl hR.1 hR.2 (pay_in h.t (lw_meth hq)) List.mem_cons_self (fun a' U hW => word_at hW (Or.inl rfl) hini)
  obtain ⟨cellB, hcB, hoB, hclB⟩ := hv
  obtain ⟨hz1, hz2, hz3⟩ := h.e.2.2.2.2
  have w1 : (Cond.sameMethod "Versorhall$Element" "Versorhall$Weighed" "quarter" "(I)F").before args s = true := word_at h.w (Or.inl rfl) hz2
  have w2 : (Cond.methodLink "Versorhall$Element" 127 ⟨"Versorhall$Element", "quarter", "(I)F"⟩).before args s = true := word_at h.w (Or.inl rfl) hz3
  have w3 := z_landM (a1 := args) h.w hz2 w1 hz1
  have w4 : (Cond.declares ⟨"Versorhall$Weighed", "quarter", "(I)F"⟩).before args s = true := va_Nw.use rfl (z_nd h q250)
  intro T hT X
  obtain ⟨v, vm₁, ⟨U', l2, c2, s2⟩, hW₁, X', ⟨g', mk, t, L, e1, e2, hqq, h1, hL, h2, h3⟩, st'⟩ := X.virtualBackUpD h.x h.o w2 w1 w4 ⟨by decide, by decide⟩ w3 (h.t _ q252) hK hclB ⟨cellB, by rw [hT]; exact hcB, rfl, hoB⟩ (g := F0 m pc ls st) rfl (hls.trans hml.symm) (Steps.refl _) (argsL := As) (rest := rest) (fun sig hsig => by
    have h2 : (parseMethodDescriptor "(I)F").map (fun d => d.parameters.length) = some 1 := by decide +kernel
    rw [show (⟨"Versorhall$Element", "quarter", "(I)F"⟩ : MethodName).desc = "(I)F" from rfl] at hsig
    rw [hsig] at h2
    exact hn.trans (Option.some.inj h2).symm) hst (lv_room hw) (by rw [h.b]; exact d) (fun vm₁ hW₁ => ⟨hf.1, hf.2, z_pre h (T.setVm vm₁) hT hW₁⟩)
  dsimp only [Pt.U, Pt.locs, Pt.cells, Pt.slots] at X' e1 e2 h1 h2 h3 st'
  subst h1; subst h2; subst h3
  exact ⟨v, (T.setVm vm₁).calling g' mk (Value.ref b :: As).toArray, t, U', L, hT, X', hL, e1, e2, hqq, fun target hs => st'.trans hs⟩
end DF
