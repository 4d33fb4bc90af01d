/-! ROW: a private method, called on an object of a subclass -/
set_option maxRecDepth 100000
section PR
variable {p : Program} {l : Launch} {e : Env} {R : Room} {s : State} {m : MethodId} {args : Array Value} {below : List Frame} {meth : Method} {c : Code} {H : Heap} {locs : List Loc} {cells slots : Nat}
variable {cc : ByteArray} {pc : Nat} {ls : Array Slot} {rest : List Value} {s0 : State} {G : zG} {own C : String}
variable {y : MethodName} {bytes : ByteArray} {maxL nL index n b : Nat} {ret : Option FieldType} {rm : Room} {As st : List Value} {M1 : Nat → Prop} {P1 : Option Value → Heap → Prop}
theorem z_runP (h : zC p l s0 G s m args c own cc) (hml : c.maxLocals = nL) (hls : ls.size = nL) (hM : zM l s0 y bytes maxL ret rm (.ref b :: As) H M1 P1) (hq : Cond.code y bytes maxL ret ∈ lw_all) (hl : Cond.methodLink own index y ∈ lw_all) (hi : Cond.instanceMethod y ∈ lw_all) (hini : Cond.initialized y.cls ∈ lw_all) (hpv : Cond.privateMethod y ∈ lw_tbl) (hsm : Cond.sameMethod y.cls y.cls y.name y.desc ∈ lw_all) (hd : zD y n) (hn : As.length = n) (hv : zRv s H b C) (hst : st = As.reverse ++ .ref b :: rest) (hw : (rest.map fun v => v.category).sum ≤ 8) (hR : rm.frames + 1 ≤ R.frames ∧ 8 + (maxL + 11) + rm.locals ≤ R.locals) (hf : cells + rm.cells ≤ R.cells ∧ slots + rm.slots ≤ R.slots) (d : decode cc pc = .ok (.invokevirtual index, 3)) :
    va_Run p l e R s m args below meth c H locs cells slots rm.cells rm.slots (F0 m pc ls st) rest (zQ H M1 P1 (Value.ref b :: As).toArray) (zA M1 H) := by
  have hini' := h.t _ hini
  have hK : Back l R p e below s args y 3 8 (PreOf R rm.cells rm.slots (zP s0 (.ref b :: As) H)) (PostOf (zQ H M1 P1) rm.cells rm.slots (zA M1 H)) := back_of (bytes := bytes) (maxL := maxL) (ret := ret) hM zP_blind rfl rfl hR.1 hR.2 (pay_in h.t (lw_meth hq)) List.mem_cons_self (fun a' U hW => word_at hW (Or.inl rfl) hini')
  obtain ⟨cellB, hcB, hoB, hclB⟩ := hv
  obtain ⟨a0, ht⟩ := h.e.1
  have hpriv : s.PrivateAt y := Cond.privateMethod_at (args := args) (Cond.privateMethod_warm h.w (ht _ hpv))
  obtain ⟨c1, k1, r1, b1, b2, b3, -, -⟩ := Cond.sameMethod_found (h.t _ hsm)
  have hsel : (Cond.selects y.cls y y).before args s = true := Stand.selects_self_of_private b1 b2 b3 hpriv (h.t _ hi) ⟨hd.1, hd.2.1⟩
  intro T hT X
  obtain ⟨v, vm₁, ⟨U', l2, c2, s2⟩, hW₁, X', ⟨g', mk, t, L, e1, e2, hqq, h1, hL, h2, h3⟩, st'⟩ := X.privateBack h.x h.o (bytes := bytes) (maxL := maxL) (ret := ret) (h.t _ hl) (h.t _ hi) hsel hpriv (h.t _ hq) ⟨hd.1, hd.2.1⟩ hK (g := F0 m pc ls st) rfl (hls.trans hml.symm) (Steps.refl _) (by rw [hT]; exact hcB) (fun q hq => by rw [hq] at hoB; cases hoB) (argsL := As) (rest := rest) (fun sig hsig => by
    have h2 := hd.2.2
    rw [hsig] at h2
    exact hn.trans (Option.some.inj h2).symm) hst (lv_room hw) (by rw [h.b]; exact d) (fun vm₁ hW₁ => ⟨hf.1, hf.2, z_pre h (T.setVm vm₁) hT hW₁⟩)
  dsimp only [Pt.U, Pt.locs, Pt.cells, Pt.slots] at X' e1 e2 h1 h2 h3 st'
  subst h1; subst h2; subst h3
  exact ⟨v, (T.setVm vm₁).calling g' mk (Value.ref b :: As).toArray, t, U', L, hT, X', hL, e1, e2, hqq, fun target hs => st'.trans hs⟩
end PR
section PU
variable {p : Program} {l : Launch} {e : Env} {R : Room} {s : State} {m : MethodId} {args : Array Value} {below : List Frame} {meth : Method} {c : Code} {H : Heap} {locs : List Loc} {cells slots : Nat}
variable {cc : ByteArray} {pc : Nat} {ls : Array Slot} {rest : List Value} {s0 : State} {G : zG} {own C : String}
variable {y : MethodName} {bytes : ByteArray} {maxL nL index n b : Nat} {ret : Option FieldType} {rm : Room} {As st : List Value} {M1 : Nat → Prop} {P1 : Option Value → Heap → Prop}
/-- an inherited method by its own name, on an object of a subclass -/
theorem z_runU (h : zC p l s0 G s m args c own cc) (hml : c.maxLocals = nL) (hls : ls.size = nL) (hM : zM l s0 y bytes maxL ret rm (.ref b :: As) H M1 P1) (hq : Cond.code y bytes maxL ret ∈ lw_all) (hl : Cond.methodLink own index y ∈ lw_all) (hsm : Cond.sameMethod y.cls y.cls y.name y.desc ∈ lw_all) (hs : Cond.selects C y y ∈ lw_all) (hi : Cond.instanceMethod y ∈ lw_all) (hini : Cond.initialized y.cls ∈ lw_all) (hd : y.cls ≠ "java/lang/invoke/MethodHandle" ∧ y.cls ≠ "java/lang/invoke/VarHandle" ∧ (parseMethodDescriptor y.desc).map (fun d => d.parameters.length) = some n) (hn : As.length = n) (hv : zRv s H b C) (hst : st = As.reverse ++ .ref b :: rest) (hw : (rest.map fun v => v.category).sum ≤ 8) (hR : rm.frames + 1 ≤ R.frames ∧ 8 + (maxL + 11) + rm.locals ≤ R.locals) (hf : cells + rm.cells ≤ R.cells ∧ slots + rm.slots ≤ R.slots) (d : decode cc pc = .ok (.invokevirtual index, 3)) :
    va_Run p l e R s m args below meth c H locs cells slots rm.cells rm.slots (F0 m pc ls st) rest (zQ H M1 P1 (Value.ref b :: As).toArray) (zA M1 H) := by
  refine va_runU (own := own) (nL := nL) (C := C) (owner := y.cls) (x := y) ⟨h.x, h.b, hml, h.o, h.t⟩ hM (va_cwU n h.t ?_ rfl rfl rfl rfl hd hR) ⟨zP_blind, hv, z_pre h⟩ rfl hn hls hst (lv_room hw) d hf
  refine lw_app ?_ (lw_meth hq)
  intro w hw
  simp only [List.mem_cons, List.not_mem_nil, or_false] at hw
  rcases hw with e | e | e | e | e
  · rw [e]; exact hl
  · rw [e]; exact hsm
  · rw [e]; exact hs
  · rw [e]; exact hi
  · rw [e]; exact hini
/-- a call of the superclass's method -/
theorem z_runSp {ci : Nat} {q : vw_C} (h : zC p l s0 G s m args c own cc) (hml : c.maxLocals = nL) (hls : ls.size = nL) (hM : zM l s0 y bytes maxL ret rm (.ref b :: As) H M1 P1) (hq : Cond.code y bytes maxL ret ∈ lw_all) (hl : Cond.methodLink own index y ∈ lw_all) (hsm : Cond.sameMethod y.cls y.cls y.name y.desc ∈ lw_all) (hsu : Cond.superclass own y.cls ∈ lw_all) (hi : Cond.instanceMethod y ∈ lw_all) (hini : Cond.initialized y.cls ∈ lw_all) (hd : y.name ≠ "<init>" ∧ (parseMethodDescriptor y.desc).map (fun d => d.parameters.length) = some n) (hn : As.length = n) (hc : zCl[ci]? = some q) (hqC : q.1 = C) (hv : zRv s H b C) (hst : st = As.reverse ++ .ref b :: rest) (hw : (rest.map fun v => v.category).sum ≤ 8) (hR : rm.frames + 1 ≤ R.frames ∧ 8 + (maxL + 11) + rm.locals ≤ R.locals) (hf : cells + rm.cells ≤ R.cells ∧ slots + rm.slots ≤ R.slots) (d : decode cc pc = .ok (.invokespecial index, 3)) :
    va_Run p l e R s m args below meth c H locs cells slots rm.cells rm.slots (F0 m pc ls st) rest (zQ H M1 P1 (Value.ref b :: As).toArray) (zA M1 H) := by
  subst hqC
  refine va_runSU (own := own) (nL := nL) (h.k.1 ci _ hc).2 ⟨h.x, h.b, hml, h.o, h.t⟩ hM (va_cwSU n h.t ?_ rfl rfl rfl hd hR) ⟨zP_blind, hv, z_pre h⟩ rfl hn hls hst (lv_room hw) d hf
  refine lw_app ?_ (lw_meth hq)
  intro w hw
  simp only [List.mem_cons, List.not_mem_nil, or_false] at hw
  rcases hw with e | e | e | e | e
  · rw [e]; exact hl
  · rw [e]; exact hsm
  · rw [e]; exact hsu
  · rw [e]; exact hi
  · rw [e]; exact hini
end PU
section PO
variable {p : Program} {l : Launch} {e : Env} {R : Room} {s : State} {m : MethodId} {args : Array Value} {below : List Frame} {meth : Method} {c : Code} {H : Heap} {locs : List Loc} {cells slots : Nat}
variable {cc : ByteArray} {pc : Nat} {ls : Array Slot} {rest : List Value} {s0 : State} {G : zG} {own C : String}
variable {x y : MethodName} {bytes bytes0 : ByteArray} {maxL maxL0 nL index n b : Nat} {ret ret0 : Option FieldType} {rm : Room} {As st : List Value} {M1 : Nat → Prop} {P1 : Option Value → Heap → Prop}
/-- a method that a subclass overrides, by its superclass's name -/
theorem z_runO (h : zC p l s0 G s m args c own cc) (hml : c.maxLocals = nL) (hls : ls.size = nL) (hM : zM l s0 y bytes maxL ret rm (.ref b :: As) H M1 P1) (hq : Cond.code y bytes maxL ret ∈ lw_all) (hl : Cond.methodLink own index x ∈ lw_all) (hsm : Cond.sameMethod x.cls x.cls x.name x.desc ∈ lw_all) (hs : Cond.selects C x y ∈ lw_all) (hi : Cond.instanceMethod y ∈ lw_all) (hini : Cond.initialized y.cls ∈ lw_all) (hix : Cond.instanceMethod x ∈ lw_all) (hcx : Cond.code x bytes0 maxL0 ret0 ∈ lw_all) (hd : x.cls ≠ "java/lang/invoke/MethodHandle" ∧ x.cls ≠ "java/lang/invoke/VarHandle" ∧ (parseMethodDescriptor x.desc).map (fun d => d.parameters.length) = some n) (hn : As.length = n) (hv : zRv s H b C) (hst : st = As.reverse ++ .ref b :: rest) (hw : (rest.map fun v => v.category).sum ≤ 8) (hR : rm.frames + 1 ≤ R.frames ∧ 8 + (maxL + 11) + rm.locals ≤ R.locals) (hf : cells + rm.cells ≤ R.cells ∧ slots + rm.slots ≤ R.slots) (d : decode cc pc = .ok (.invokevirtual index, 3)) :
    va_Run p l e R s m args below meth c H locs cells slots rm.cells rm.slots (F0 m pc ls st) rest (zQ H M1 P1 (Value.ref b :: As).toArray) (zA M1 H) := by
  have hG := lw_meth hq
  have hT : GoodIn lw_all ([.methodLink own index x, .sameMethod x.cls x.cls x.name x.desc, .selects C x y, .instanceMethod y, .initialized y.cls] ++ ws_ y bytes maxL ret) := by
    refine lw_app ?_ hG
    intro w hw
    simp only [List.mem_cons, List.not_mem_nil, or_false] at hw
    rcases hw with e | e | e | e | e
    · rw [e]; exact hl
    · rw [e]; exact hsm
    · rw [e]; exact hs
    · rw [e]; exact hi
    · rw [e]; exact hini
  have hc : Cond.code y bytes maxL ret ∈ ws_ y bytes maxL ret := List.mem_cons_self
  refine va_runU (own := own) (nL := nL) (C := C) (owner := x.cls) (x := x) ⟨h.x, h.b, hml, h.o, h.t⟩ hM ⟨⟨rfl, rfl, hR.1, hR.2, pay_in h.t hG, hc⟩, h.t _ hq, h.t _ hini, ⟨hd.1, hd.2.1⟩, fun sig hsig => ?_, h.t _ hl, h.t _ hsm, va_Decl.of (h.t _ hix) (h.t _ hcx), h.t _ hs, h.t _ hi⟩ ⟨zP_blind, hv, z_pre h⟩ rfl hn hls hst (lv_room hw) d hf
  have h2 := hd.2.2
  rw [hsig] at h2
  exact (Option.some.inj h2).symm
end PO
