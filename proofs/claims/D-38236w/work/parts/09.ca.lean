/-! ENTRY, RETURNS, CALLS -/
set_option maxRecDepth 100000
theorem zE.k {l : Launch} {s0 s : State} {G : zG} (h : zE l s0 G) (hW : s0.WarmedH s.vm) : va_K G.1 zCl (zTy G) s := h.2.1.moved hW.alike
/-- a contract out of a walk of the body, the method's own name plain enough -/
theorem z_ofW {l : Launch} {y : MethodName} {ws ws' : List Cond} {rm : Room} {Pc : Array Value → State → Prop} {Qc : Array Value → State → Outcome → State → Prop} {mc ms : Nat} {free : Addr → Prop} {cc : ByteArray} {maxL : Nat} {ret : Option FieldType} (hy : plainFor y = true) (hw : ws = Cond.code y cc maxL ret :: ws')
    (body : ∀ p e s m args below meth c s₁, BodyLoose p l y (headSpec ws rm) cc maxL ret e s m args below meth c s₁ → c.maxLocals = maxL → Pc args s → W p l e (headSpec ws rm).room s m args below meth c s.heap [] 0 0 (MQ below Qc args s mc ms free) (entryFrame m args maxL)) : Met l y ws rm Pc Qc mc ms free := by
  refine MetFree.of_bodySF (code := cc) (maxLocals := maxL) (ret := ret) hy ?_ ?_
  · intro args s m h hn
    obtain ⟨meth, c, h1, h2, h3, h4, h5, h6, -⟩ := Cond.code_spec hn (atoms_spec (ws := ws) h _ (hw ▸ List.mem_cons_self))
    exact ⟨meth, c, h1, h2, h3, h4, h5, h6⟩
  · intro p e s m args below meth c s₁ B hml hP _
    obtain ⟨t, a1, o, b1, b2, b3⟩ := body p e s m args below meth c s₁ B hml hP s₁ (by rw [B.state]; rfl) (Stand.of_body B)
    exact ⟨t, o, a1, b1, b2, ⟨b3.1, b3.2⟩⟩
theorem z_met {l : Launch} {s0 : State} {G : zG} {y : MethodName} {cc : ByteArray} {maxL : Nat} {ret : Option FieldType} {rm : Room} {av : List Value} {H : Heap} {M : Nat → Prop} {P : Option Value → Heap → Prop} (hE : zE l s0 G) (hy : plainFor y = true) (hsl : (lg_sl av).length ≤ maxL)
    (body : ∀ (p : Program) (e : Env) (s : State) (m : MethodId) (args : Array Value) (below : List Frame) (meth : Method) (c : Code) (Q : State → Prop) (ls : Array Slot), zC p l s0 G s m args c y.cls cc → c.maxLocals = maxL → meth.sig.returnType = ret → meth.locks = false → meth.name = y.name → s.heap = H → (∀ t, MQ below (zQ H M P) args s rm.cells rm.slots (zA M H) t → Q t) → va_S (zA M H) H H [] → lv_has ls maxL (lv_args 0 av) → W p l e rm s m args below meth c H [] 0 0 Q (F0 m 0 ls [])) : zM l s0 y cc maxL ret rm av H M P := by
  refine z_ofW (cc := cc) (maxL := maxL) (ret := ret) hy rfl ?_
  intro p e s m args below meth c s₁ B hml hv
  obtain ⟨rfl, hH, hW⟩ := hv
  have hts := atoms_spec (ws := ws_ y cc maxL ret) B.pre
  have hl := lv_entry av (n := maxL) hsl
  rw [lg_entry_eq, hH]
  exact body p e s m av.toArray below meth c _ _ ⟨B.exec, B.bytes, findClass_of_methodNamed B.named, fun w h => hts w (List.mem_cons_of_mem _ h), hE.k hW, hW, hE⟩ hml B.returns B.notSynchronized (name_of_methodNamed B.named B.method).1 hH (fun t h => h) va_S.rf hl
theorem z_metX {l : Launch} {s0 : State} {G : zG} {y : MethodName} {cc : ByteArray} {maxL : Nat} {ret : Option FieldType} {rm : Room} {av : List Value} {H : Heap} {M : Nat → Prop} {P : Option Value → Heap → Prop} {PX : String → Heap → Prop} (hE : zE l s0 G) (hy : plainName y.cls = true) (hsl : (lg_sl av).length ≤ maxL)
    (body : ∀ (p : Program) (e : Env) (s : State) (m : MethodId) (args : Array Value) (below : List Frame) (meth : Method) (c : Code) (Q : State → Prop) (ls : Array Slot), zC p l s0 G s m args c y.cls cc → c.maxLocals = maxL → meth.sig.returnType = ret → meth.locks = false → meth.name = y.name → s.heap = H → (∀ t, MQ below (zQ H M P) args s rm.cells rm.slots (zA M H) t → Q t) → (∀ x ∈ c.exceptionTable.toList, False) → (∀ t, vx_MQ below (zQ H M P) (zX H M PX) args s rm.cells rm.slots (zA M H) t → Q t) → va_S (zA M H) H H [] → lv_has ls maxL (lv_args 0 av) → W p l e rm s m args below meth c H [] 0 0 Q (F0 m 0 ls [])) : zMX l s0 y cc maxL ret rm av H M P PX := by
  refine vx_ofW (cc := cc) (maxL := maxL) (ret := ret) hy rfl ?_
  intro p e s m args below meth c s₁ B hml hno hv
  obtain ⟨rfl, hH, hW⟩ := hv
  have hts := atoms_spec (ws := ws_ y cc maxL ret) B.pre
  have hl := lv_entry av (n := maxL) hsl
  rw [lg_entry_eq, hH]
  exact body p e s m av.toArray below meth c _ _ ⟨B.exec, B.bytes, findClass_of_methodNamed B.named, fun w h => hts w (List.mem_cons_of_mem _ h), hE.k hW, hW, hE⟩ hml B.returns B.notSynchronized (name_of_methodNamed B.named B.method).1 hH (fun t h => by obtain ⟨o, b1, b2, b3, b4⟩ := h; exact ⟨o, b1, b2, Or.inl ⟨b3, b4⟩⟩) hno (fun t h => h) va_S.rf hl
section RET
variable {p : Program} {l : Launch} {e : Env} {R : Room} {s : State} {m : MethodId} {args : Array Value} {below : List Frame} {meth : Method} {c : Code} {H : Heap} {locs : List Loc} {cells slots : Nat} {Q : State → Prop}
variable {cc : ByteArray} {pc : Nat} {ls : Array Slot} {rest : List Value} {s0 : State} {G : zG} {own : String} {A : Nat → Prop} {H0 : Heap} {ws : va_W} {M : Nat → Prop} {mc ms : Nat} {P : Option Value → Heap → Prop} {PX : String → Heap → Prop}
theorem W.to {Q' : State → Prop} {g : JFrame} (h : ∀ t, Q' t → Q t) (k : W p l e R s m args below meth c H locs cells slots Q' g) : W p l e R s m args below meth c H locs cells slots Q g := by
  intro T hT X
  obtain ⟨t, a, b⟩ := k T hT X
  exact ⟨t, a, h t b⟩
theorem z_q {v : Option Value} (hS : va_S (zA M H0) H0 H locs) (hp : P v H) : ∀ t : State, t.heap = H → s.WarmedH t.vm → zQ H0 M P args s (.returned v) t := fun t ht _ => ⟨v, rfl, by rw [ht]; exact hp, by rw [ht]; exact zS_F hS⟩
theorem z_iret (h : zC p l s0 G s m args c own cc) (hr : meth.sig.returnType = some .int) (hk : meth.locks = false) (hQ : ∀ t, MQ below (zQ H0 M P) args s mc ms (zA M H0) t → Q t) (hS : va_S (zA M H0) H0 H locs) (hc : cells ≤ mc ∧ slots ≤ ms) {v : Int} (hp : P (some (.int (iI v))) H) (d : decode cc pc = .ok (.ireturn, 1)) : W p l e R s m args below meth c H locs cells slots Q (F0 m pc ls [.int (iI v)]) :=
  W.to hQ (W.widen hc.1 hc.2 (W.iret h.x h.b hr (z_q hS hp) hS.2.2 d hk))
theorem z_zret (h : zC p l s0 G s m args c own cc) (hr : meth.sig.returnType = some .boolean) (hk : meth.locks = false) (hQ : ∀ t, MQ below (zQ H0 M P) args s mc ms (zA M H0) t → Q t) (hS : va_S (zA M H0) H0 H locs) (hc : cells ≤ mc ∧ slots ≤ ms) {v : Int} (hv : v = 0 ∨ v = 1) (hp : P (some (.int (iI v))) H) (d : decode cc pc = .ok (.ireturn, 1)) : W p l e R s m args below meth c H locs cells slots Q (F0 m pc ls [.int (iI v)]) :=
  W.to hQ (W.widen hc.1 hc.2 (W.zret h.x h.b hr (by rcases hv with rfl | rfl <;> rfl) (z_q hS hp) hS.2.2 d hk))
theorem z_vret (h : zC p l s0 G s m args c own cc) (hr : meth.sig.returnType = none) (hk : meth.locks = false) (hQ : ∀ t, MQ below (zQ H0 M P) args s mc ms (zA M H0) t → Q t) (hS : va_S (zA M H0) H0 H locs) (hc : cells ≤ mc ∧ slots ≤ ms) (hp : P none H) (d : decode cc pc = .ok (.return_, 1)) : W p l e R s m args below meth c H locs cells slots Q (F0 m pc ls []) :=
  W.to hQ (W.widen hc.1 hc.2 (W.vret h.x h.b hr (z_q hS hp) hS.2.2 d hk))
theorem z_aret {C : String} (h : zC p l s0 G s m args c own cc) (hr : meth.sig.returnType = some (.object C)) (hk : meth.locks = false) (hQ : ∀ t, MQ below (zQ H0 M P) args s mc ms (zA M H0) t → Q t) (hS : va_S (zA M H0) H0 H locs) (hc : cells ≤ mc ∧ slots ≤ ms) {q : Nat} (hp : P (some (.ref q)) H) (d : decode cc pc = .ok (.areturn, 1)) : W p l e R s m args below meth c H locs cells slots Q (F0 m pc ls [.ref q]) :=
  W.to hQ (W.widen hc.1 hc.2 (W.aret h.x h.b hr (Or.inl ⟨_, rfl⟩) (Or.inr ⟨_, rfl⟩) (z_q hS hp) hS.2.2 d hk))
theorem z_aretA {t : FieldType} (h : zC p l s0 G s m args c own cc) (hr : meth.sig.returnType = some (.array t)) (hk : meth.locks = false) (hQ : ∀ t, MQ below (zQ H0 M P) args s mc ms (zA M H0) t → Q t) (hS : va_S (zA M H0) H0 H locs) (hc : cells ≤ mc ∧ slots ≤ ms) {q : Nat} (hp : P (some (.ref q)) H) (d : decode cc pc = .ok (.areturn, 1)) : W p l e R s m args below meth c H locs cells slots Q (F0 m pc ls [.ref q]) :=
  W.to hQ (W.widen hc.1 hc.2 (W.aret h.x h.b hr (Or.inr ⟨_, rfl⟩) (Or.inr ⟨_, rfl⟩) (z_q hS hp) hS.2.2 d hk))
/-! going on behind a call -/
theorem z_keep {M1 : Nat → Prop} {H1 : Heap} {L : List Loc} (hS : va_S (zA M H0) H0 H locs) (hM : ∀ q, M1 q → zA M H0 q) (hF : zF M1 H H1) (hL : ∀ q ∈ L, zA M1 H q.base) : va_S (zA M H0) H0 H1 (locs ++ L) := by
  refine ⟨Nat.le_trans hS.1 hF.1, fun q a b => (hF.2 q (Nat.lt_of_lt_of_le a hS.1) (fun z => b (hM q z))).trans (hS.2.1 q a b), fun q hq => ?_⟩
  rcases List.mem_append.mp hq with hq | hq
  · exact hS.2.2 q hq
  · rcases hL q hq with z | z
    · exact hM _ z
    · exact Or.inr (Nat.le_trans hS.1 z)
theorem z_go {M1 : Nat → Prop} {P1 : Option Value → Heap → Prop} {a : Array Value} {st : List Value} {mc1 ms1 : Nat} (c1 s1 : Nat) (hr : va_Run p l e R s m args below meth c H locs cells slots mc1 ms1 (F0 m pc ls st) rest (zQ H M1 P1 a) (zA M1 H)) (hc : cells + mc1 ≤ c1 ∧ slots + ms1 ≤ s1) (hS : va_S (zA M H0) H0 H locs) (hM : ∀ q, M1 q → zA M H0 q)
    (kk : ∀ (r : Option Value) (H1 : Heap) (locs1 : List Loc), P1 r H1 → zF M1 H H1 → va_S (zA M H0) H0 H1 locs1 → W p l e R s m args below meth c H1 locs1 c1 s1 Q (F0 m (pc + 3) ls (r.toList ++ rest))) : W p l e R s m args below meth c H locs cells slots Q (F0 m pc ls st) := by
  intro T hT X
  obtain ⟨v, st₀, t, T', L, h0, X', hL, e1, e2, ⟨r, hv, hp, hF⟩, st⟩ := hr T hT X
  cases hv
  rw [← e1] at hp hF
  obtain ⟨t2, a1, b1⟩ := W.widen hc.1 hc.2 (kk v T'.heap (locs ++ L) hp hF (z_keep hS hM hF hL)) T' rfl X'
  exact ⟨t2, st t2 a1, b1⟩
theorem z_go5 {M1 : Nat → Prop} {P1 : Option Value → Heap → Prop} {a : Array Value} {st : List Value} {mc1 ms1 : Nat} (c1 s1 : Nat) (hr : va_Run5 p l e R s m args below meth c H locs cells slots mc1 ms1 (F0 m pc ls st) rest (zQ H M1 P1 a) (zA M1 H)) (hc : cells + mc1 ≤ c1 ∧ slots + ms1 ≤ s1) (hS : va_S (zA M H0) H0 H locs) (hM : ∀ q, M1 q → zA M H0 q)
    (kk : ∀ (r : Option Value) (H1 : Heap) (locs1 : List Loc), P1 r H1 → zF M1 H H1 → va_S (zA M H0) H0 H1 locs1 → W p l e R s m args below meth c H1 locs1 c1 s1 Q (F0 m (pc + 5) ls (r.toList ++ rest))) : W p l e R s m args below meth c H locs cells slots Q (F0 m pc ls st) := by
  intro T hT X
  obtain ⟨v, st₀, t, T', L, h0, X', hL, e1, e2, ⟨r, hv, hp, hF⟩, st⟩ := hr T hT X
  cases hv
  rw [← e1] at hp hF
  obtain ⟨t2, a1, b1⟩ := W.widen hc.1 hc.2 (kk v T'.heap (locs ++ L) hp hF (z_keep hS hM hF hL)) T' rfl X'
  exact ⟨t2, st t2 a1, b1⟩
/-- a callee that may throw -/
theorem z_goX {M1 : Nat → Prop} {P1 : Option Value → Heap → Prop} {X1 : String → Heap → Prop} {a : Array Value} {st : List Value} {mc1 ms1 : Nat} (c1 s1 : Nat) (hr : vx_Run p l e R s m args below meth c H locs cells slots mc1 ms1 (F0 m pc ls st) rest (zQ H M1 P1 a) (zX H M1 X1) (zA M1 H)) (hc : cells + mc1 ≤ c1 ∧ slots + ms1 ≤ s1) (hS : va_S (zA M H0) H0 H locs) (hM : ∀ q, M1 q → zA M H0 q)
    (kx : ∀ (E : String) (ce : Cell) (q9 : Addr) (H1 : Heap) (locs1 : List Loc), X1 E H1 → zF M1 H H1 → va_S (zA M H0) H0 H1 locs1 → H1[q9]? = some ce → ce.vm = .none → s.vm.findClass E = some ce.cls → vx_W p l e R s m args below meth c H1 locs1 c1 s1 Q (F0 m pc ls rest) q9)
    (kk : ∀ (r : Option Value) (H1 : Heap) (locs1 : List Loc), P1 r H1 → zF M1 H H1 → va_S (zA M H0) H0 H1 locs1 → W p l e R s m args below meth c H1 locs1 c1 s1 Q (F0 m (pc + 3) ls (r.toList ++ rest))) : W p l e R s m args below meth c H locs cells slots Q (F0 m pc ls st) := by
  intro T hT X
  rcases hr T hT X with ⟨v, st₀, t, T', L, h0, X', hL, e1, e2, ⟨r, hv, hp, hF⟩, st⟩ | ⟨q, st₀, t, T', L, E, ce, h0, X', hL, e1, e2, ⟨hp, hF⟩, hce, hcv, hcl, st⟩
  · cases hv
    rw [← e1] at hp hF
    obtain ⟨t2, a1, b1⟩ := W.widen hc.1 hc.2 (kk v T'.heap (locs ++ L) hp hF (z_keep hS hM hF hL)) T' rfl X'
    exact ⟨t2, st t2 a1, b1⟩
  · rw [← e1] at hp hF hce
    obtain ⟨t2, a1, b1⟩ := vx_widen hc.1 hc.2 (kx E ce q T'.heap (locs ++ L) hp hF (z_keep hS hM hF hL) hce hcv hcl) T' rfl X'
    exact ⟨t2, st.trans a1, b1⟩
/-- not caught here -/
theorem z_out (hno : ∀ x ∈ c.exceptionTable.toList, False) (hk : meth.locks = false) (hX : ∀ t, vx_MQ below (zQ H0 M P) (zX H0 M PX) args s mc ms (zA M H0) t → Q t) (hS : va_S (zA M H0) H0 H locs) (hc : cells ≤ mc ∧ slots ≤ ms) {E : String} {ce : Cell} {q : Addr} (hce : H[q]? = some ce) (hcv : ce.vm = .none) (hcl : s.vm.findClass E = some ce.cls) (hp : PX E H) : vx_W p l e R s m args below meth c H locs cells slots Q (F0 m pc ls rest) q := by
  intro T hT X
  obtain ⟨t, a, b⟩ := vx_out (Qc := zQ H0 M P) (XC := zX H0 M PX) (mc := mc) (ms := ms) (free := zA M H0) (rest := rest) (pc := pc) (ls := ls) (fun x hx => (hno x hx).elim) hk hce hcv hcl (fun t ht _ => ⟨by rw [ht]; exact hp, by rw [ht]; exact zS_F hS⟩) hS.2.2 hc.1 hc.2 T hT X
  exact ⟨t, a, hX t b⟩
/-! the calls' run -/
theorem z_pre {av : List Value} (h : zC p l s0 G s m args c own cc) : ∀ U : State, U.heap = H → s.WarmedH U.vm → zP s0 av H av.toArray U := fun U hU hW => ⟨rfl, hU, State.WarmedH.trans h.w hW⟩
/-- what a call needs of its callee's name -/
def zD (y : MethodName) (n : Nat) : Prop := y.cls ≠ "java/lang/invoke/MethodHandle" ∧ y.cls ≠ "java/lang/invoke/VarHandle" ∧ (parseMethodDescriptor y.desc).map (fun d => d.parameters.length) = some n
def zRm (rm R : Room) (maxL : Nat) : Prop := rm.frames + 1 ≤ R.frames ∧ 8 + (maxL + 11) + rm.locals ≤ R.locals
/-- the receiver's class -/
def zRv (s : State) (H : Heap) (b : Nat) (C : String) : Prop := ∃ cell : Cell, H[b]? = some cell ∧ cell.vm.isStatics = false ∧ s.vm.findClass C = some cell.cls
theorem z_rv (h : zC p l s0 G s m args c own cc) {b ci : Nat} {fs : List Value} {q : vw_C} {C : String} (hc : zCl[ci]? = some q) (ha : zAt G b (zOb ci fs) H) (hC : q.1 = C) : zRv s H b C := by
  subst hC; exact va_recv h.k (zP1 ha) hc (q0 := 0) rfl
variable {y : MethodName} {bytes : ByteArray} {maxL nL index n b : Nat} {ret : Option FieldType} {rm : Room} {As st : List Value} {M1 : Nat → Prop} {P1 : Option Value → Heap → Prop} {X1 : String → Heap → Prop} {C : String}
theorem z_runV (h : zC p l s0 G s m args c own cc) (hml : c.maxLocals = nL) (hls : ls.size = nL) (hM : zM l s0 y bytes maxL ret rm (.ref b :: As) H M1 P1) (hg : GoodIn lw_all (wsV own index C y (ws_ y bytes maxL ret))) (hC : y.cls = C) (hd : zD y n) (hn : As.length = n) (hv : zRv s H b C) (hst : st = As.reverse ++ .ref b :: rest) (hw : (rest.map fun v => v.category).sum ≤ 8) (hR : zRm rm R maxL) (hf : cells + rm.cells ≤ R.cells ∧ slots + rm.slots ≤ R.slots) (d : decode cc pc = .ok (.invokevirtual index, 3)) :
    va_Run p l e R s m args below meth c H locs cells slots rm.cells rm.slots (F0 m pc ls st) rest (zQ H M1 P1 (Value.ref b :: As).toArray) (zA M1 H) :=
  va_runV (own := own) (nL := nL) ⟨h.x, h.b, hml, h.o, h.t⟩ hM (cwV n h.t hg rfl rfl rfl ⟨hC, hd⟩ hR) ⟨zP_blind, hv, z_pre h⟩ rfl hn hls hst (lv_room hw) d hf
theorem z_runS (h : zC p l s0 G s m args c own cc) (hml : c.maxLocals = nL) (hls : ls.size = nL) (hM : zM l s0 y bytes maxL ret rm As H M1 P1) (hg : GoodIn lw_all (va_wsS own index y (ws_ y bytes maxL ret))) (hd : zD y n) (hn : As.length = n) (hst : st = As.reverse ++ rest) (hw : (rest.map fun v => v.category).sum ≤ 8) (hR : zRm rm R maxL) (hf : cells + rm.cells ≤ R.cells ∧ slots + rm.slots ≤ R.slots) (d : decode cc pc = .ok (.invokestatic index, 3)) :
    va_Run p l e R s m args below meth c H locs cells slots rm.cells rm.slots (F0 m pc ls st) rest (zQ H M1 P1 As.toArray) (zA M1 H) :=
  va_runS (own := own) (nL := nL) ⟨h.x, h.b, hml, h.o, h.t⟩ hM (va_cwS n h.t hg rfl rfl rfl hd hR) ⟨zP_blind, z_pre h⟩ rfl hn hls hst (lv_room hw) d hf
theorem z_runI (h : zC p l s0 G s m args c own cc) (hml : c.maxLocals = nL) (hls : ls.size = nL) (hM : zM l s0 y bytes maxL none rm (.ref b :: As) H M1 P1) (hq : Cond.code y bytes maxL none ∈ lw_all) (hi : Cond.initialized y.cls ∈ lw_all) (hl : Cond.methodLink own index y ∈ lw_all) (hm : Cond.instanceMethod y ∈ lw_all) (hy : y.name = "<init>") (hd : zD y n) (hn : As.length = n) (hst : st = As.reverse ++ .ref b :: rest) (hw : (rest.map fun v => v.category).sum ≤ 8) (hR : zRm rm R maxL) (hf : cells + rm.cells ≤ R.cells ∧ slots + rm.slots ≤ R.slots) (d : decode cc pc = .ok (.invokespecial index, 3)) :
    va_Run p l e R s m args below meth c H locs cells slots rm.cells rm.slots (F0 m pc ls st) rest (zQ H M1 P1 (Value.ref b :: As).toArray) (zA M1 H) :=
  va_runI (own := own) (nL := nL) ⟨h.x, h.b, hml, h.o, h.t⟩ hM (cwI n h.t (lw_meth hq) rfl rfl rfl (h.t _ hi) (h.t _ hl) (h.t _ hm) hy hd hR) ⟨zP_blind, z_pre h⟩ rfl hn hls hst (lv_room hw) d hf
theorem z_nm (h : zC p l s0 G s m args c own cc) {a : String} {i : Nat} {x : MethodName} {hh : String} (hq : Cond.methodLinkNest a i x hh ∈ lw_tbl) : va_Nw (Cond.methodLinkNest a i x hh) s := by
  obtain ⟨a0, ht⟩ := h.e.1
  exact (va_Nw.of (A := a0) rfl (ht _ hq)).warmM h.w
theorem z_runVN {host : String} (h : zC p l s0 G s m args c own cc) (hml : c.maxLocals = nL) (hls : ls.size = nL) (hM : zM l s0 y bytes maxL ret rm (.ref b :: As) H M1 P1) (hq : Cond.code y bytes maxL ret ∈ lw_all) (hi : Cond.initialized y.cls ∈ lw_all) (hl : Cond.methodLinkNest own index y host ∈ lw_tbl) (hm : Cond.instanceMethod y ∈ lw_all) (hs : Cond.selects C y y ∈ lw_all) (hd : zD y n) (hn : As.length = n) (hv : zRv s H b C) (hst : st = As.reverse ++ .ref b :: rest) (hw : (rest.map fun v => v.category).sum ≤ 8) (hR : zRm rm R maxL) (hf : cells + rm.cells ≤ R.cells ∧ slots + rm.slots ≤ R.slots) (d : decode cc pc = .ok (.invokevirtual index, 3)) :
    va_Run p l e R s m args below meth c H locs cells slots rm.cells rm.slots (F0 m pc ls st) rest (zQ H M1 P1 (Value.ref b :: As).toArray) (zA M1 H) :=
  va_runVN (own := own) (nL := nL) ⟨h.x, h.b, hml, h.o, h.t⟩ hM ⟨va_cnB n h.t (lw_meth hq) rfl rfl rfl (z_nm h hl) (h.t _ hi) hd hR, h.t _ hm, h.t _ hs⟩ ⟨zP_blind, hv, z_pre h⟩ rfl hn hls hst (lv_room hw) d hf
theorem z_runSN {host : String} (h : zC p l s0 G s m args c own cc) (hml : c.maxLocals = nL) (hls : ls.size = nL) (hM : zM l s0 y bytes maxL ret rm As H M1 P1) (hq : Cond.code y bytes maxL ret ∈ lw_all) (hi : Cond.initialized y.cls ∈ lw_all) (hl : Cond.methodLinkNest own index y host ∈ lw_tbl) (hm : Cond.static y ∈ lw_all) (hd : zD y n) (hn : As.length = n) (hst : st = As.reverse ++ rest) (hw : (rest.map fun v => v.category).sum ≤ 8) (hR : zRm rm R maxL) (hf : cells + rm.cells ≤ R.cells ∧ slots + rm.slots ≤ R.slots) (d : decode cc pc = .ok (.invokestatic index, 3)) :
    va_Run p l e R s m args below meth c H locs cells slots rm.cells rm.slots (F0 m pc ls st) rest (zQ H M1 P1 As.toArray) (zA M1 H) :=
  va_runSN (own := own) (nL := nL) ⟨h.x, h.b, hml, h.o, h.t⟩ hM ⟨va_cnB n h.t (lw_meth hq) rfl rfl rfl (z_nm h hl) (h.t _ hi) hd hR, h.t _ hm, trivial⟩ ⟨zP_blind, z_pre h⟩ rfl hn hls hst (lv_room hw) d hf
theorem z_runIN {host : String} (h : zC p l s0 G s m args c own cc) (hml : c.maxLocals = nL) (hls : ls.size = nL) (hM : zM l s0 y bytes maxL none rm (.ref b :: As) H M1 P1) (hq : Cond.code y bytes maxL none ∈ lw_all) (hi : Cond.initialized y.cls ∈ lw_all) (hl : Cond.methodLinkNest own index y host ∈ lw_tbl) (hm : Cond.instanceMethod y ∈ lw_all) (hy : y.name = "<init>") (hd : zD y n) (hn : As.length = n) (hst : st = As.reverse ++ .ref b :: rest) (hw : (rest.map fun v => v.category).sum ≤ 8) (hR : zRm rm R maxL) (hf : cells + rm.cells ≤ R.cells ∧ slots + rm.slots ≤ R.slots) (d : decode cc pc = .ok (.invokespecial index, 3)) :
    va_Run p l e R s m args below meth c H locs cells slots rm.cells rm.slots (F0 m pc ls st) rest (zQ H M1 P1 (Value.ref b :: As).toArray) (zA M1 H) :=
  va_runIN (own := own) (nL := nL) ⟨h.x, h.b, hml, h.o, h.t⟩ hM ⟨va_cnB n h.t (lw_meth hq) rfl rfl rfl (z_nm h hl) (h.t _ hi) hd hR, hy, h.t _ hm⟩ ⟨zP_blind, z_pre h⟩ rfl hn hls hst (lv_room hw) d hf
theorem z_runVx (h : zC p l s0 G s m args c own cc) (hml : c.maxLocals = nL) (hls : ls.size = nL) (hM : zMX l s0 y bytes maxL ret rm (.ref b :: As) H M1 P1 X1) (hg : GoodIn lw_all (wsV own index C y (ws_ y bytes maxL ret))) (hC : y.cls = C) (hd : zD y n) (hn : As.length = n) (hv : zRv s H b C) (hst : st = As.reverse ++ .ref b :: rest) (hw : (rest.map fun v => v.category).sum ≤ 8) (hR : zRm rm R maxL) (hf : cells + rm.cells ≤ R.cells ∧ slots + rm.slots ≤ R.slots) (d : decode cc pc = .ok (.invokevirtual index, 3)) :
    vx_Run p l e R s m args below meth c H locs cells slots rm.cells rm.slots (F0 m pc ls st) rest (zQ H M1 P1 (Value.ref b :: As).toArray) (zX H M1 X1) (zA M1 H) :=
  vx_runV (own := own) (nL := nL) ⟨h.x, h.b, hml, h.o, h.t⟩ hM (cwV n h.t hg rfl rfl rfl ⟨hC, hd⟩ hR) ⟨zP_blind, hv, z_pre h⟩ rfl hn hls hst (lv_room hw) d hf
theorem z_runSx (h : zC p l s0 G s m args c own cc) (hml : c.maxLocals = nL) (hls : ls.size = nL) (hM : zMX l s0 y bytes maxL ret rm As H M1 P1 X1) (hg : GoodIn lw_all (va_wsS own index y (ws_ y bytes maxL ret))) (hd : zD y n) (hn : As.length = n) (hst : st = As.reverse ++ rest) (hw : (rest.map fun v => v.category).sum ≤ 8) (hR : zRm rm R maxL) (hf : cells + rm.cells ≤ R.cells ∧ slots + rm.slots ≤ R.slots) (d : decode cc pc = .ok (.invokestatic index, 3)) :
    vx_Run p l e R s m args below meth c H locs cells slots rm.cells rm.slots (F0 m pc ls st) rest (zQ H M1 P1 As.toArray) (zX H M1 X1) (zA M1 H) :=
  vx_runS (own := own) (nL := nL) ⟨h.x, h.b, hml, h.o, h.t⟩ hM (va_cwS n h.t hg rfl rfl rfl hd hR) ⟨zP_blind, z_pre h⟩ rfl hn hls hst (lv_room hw) d hf
end RET
