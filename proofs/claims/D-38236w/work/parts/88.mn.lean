/-! ROWS: monitors are entered and left; who waits is told; frames that hold a monitor -/
set_option maxRecDepth 100000
/-- old cells keep their monitors -/
def zMk (H H1 : Heap) : Prop := ∀ (q : Nat) (cell : Cell), H[q]? = some cell → ∃ c1 : Cell, H1[q]? = some c1 ∧ c1.monitor = cell.monitor
theorem zMk.rf {H : Heap} : zMk H H := fun _ c h => ⟨c, h, rfl⟩
theorem zMk.trans {H H1 H2 : Heap} (h : zMk H H1) (h2 : zMk H1 H2) : zMk H H2 := fun q c hq => by
  obtain ⟨c1, a, b⟩ := h q c hq
  obtain ⟨c2, a2, b2⟩ := h2 q c1 a
  exact ⟨c2, a2, b2.trans b⟩
/-- the cell's monitor is μ -/
def zMn (a : Nat) (μ : Monitor) (H : Heap) : Prop := ∃ cell : Cell, H[a]? = some cell ∧ cell.monitor = μ
theorem zMn.mk {a : Nat} {μ : Monitor} {H H1 : Heap} (h : zMn a μ H) (hk : zMk H H1) : zMn a μ H1 := by
  obtain ⟨c, h1, h2⟩ := h
  obtain ⟨c1, h3, h4⟩ := hk a c h1
  exact ⟨c1, h3, h4.trans h2⟩
theorem zMn.lt {a : Nat} {μ : Monitor} {H : Heap} (h : zMn a μ H) : a < H.size := by
  obtain ⟨c, h1, h2⟩ := h
  exact (Array.getElem?_eq_some_iff.mp h1).1
theorem zMn.ext {a : Nat} {μ : Monitor} {M : Nat → Prop} {H H1 : Heap} (h : zMn a μ H) (hF : zF M H H1) (hM : ¬ M a) : zMn a μ H1 := by
  have hl := h.lt
  obtain ⟨c, h1, h2⟩ := h
  exact ⟨c, (hF.2 a hl hM).trans h1, h2⟩
theorem zMk_same {s t : State} {L : List Loc} {k n : Nat} (h : s.sameButNew ({ t with vm := s.vm } : State) L k n) : zMk s.heap t.heap := fun q c hq => by
  obtain ⟨c', a, b, -⟩ := h.2.2.2.2.2 q c hq
  exact ⟨c', a, by have h9 := congrArg Cell.monitor b; exact h9⟩
/-- a contract keeps the monitors of all old cells -/
theorem z_mon {l : Launch} {s0 : State} {y : MethodName} {cc : ByteArray} {maxL : Nat} {ret : Option FieldType} {rm : Room} {av : List Value} {H : Heap} {M : Nat → Prop} {P : Option Value → Heap → Prop} (h : zM l s0 y cc maxL ret rm av H M P) : zM l s0 y cc maxL ret rm av H M (fun r h1 => P r h1 ∧ zMk H h1) := by
  refine MetFree.mono h (fun _ _ h => h) (fun _ _ _ _ _ h => h) ?_
  rintro a st o t hp ⟨⟨r, h1, h2, h3⟩, L, h4, h5⟩
  have h6 := zMk_same h4.2.2
  rw [hp.2.1] at h6
  exact ⟨⟨r, h1, ⟨h2, h6⟩, h3⟩, L, h4, h5⟩
theorem vx_monQ {s0 : State} {av : List Value} {H : Heap} {M : Nat → Prop} {P : Option Value → Heap → Prop} {PX : String → Heap → Prop} {mc ms : Nat} {free : Addr → Prop} {a : Array Value} {st t : State} {o : Outcome} (hp : zP s0 av H a st) (h : vx_Q (zQ H M P) (zX H M PX) mc ms free a st o t) : vx_Q (zQ H M (fun r h1 => P r h1 ∧ zMk H h1)) (zX H M (fun E h1 => PX E h1 ∧ zMk H h1)) mc ms free a st o t := by
  rcases h with ⟨⟨r, h1, h2, h3⟩, L, h4, h5⟩ | ⟨q, h0, E, ce, L, ⟨h1, h2⟩, h3, h4, h5, h6, h7, h8⟩
  · have h6 := zMk_same h4.2.2
    rw [hp.2.1] at h6
    exact Or.inl ⟨⟨r, h1, ⟨h2, h6⟩, h3⟩, L, h4, h5⟩
  · have h9 := zMk_same h7
    rw [hp.2.1] at h9
    exact Or.inr ⟨q, h0, E, ce, L, ⟨⟨h1, h9⟩, h2⟩, h3, h4, h5, h6, h7, h8⟩
theorem z_monX {l : Launch} {s0 : State} {y : MethodName} {cc : ByteArray} {maxL : Nat} {ret : Option FieldType} {rm : Room} {av : List Value} {H : Heap} {M : Nat → Prop} {P : Option Value → Heap → Prop} {PX : String → Heap → Prop} (h : zMX l s0 y cc maxL ret rm av H M P PX) : zMX l s0 y cc maxL ret rm av H M (fun r h1 => P r h1 ∧ zMk H h1) (fun E h1 => PX E h1 ∧ zMk H h1) :=
  MetFree.mono h (fun _ _ h => h) (fun _ _ _ _ _ h => h) (fun _ _ _ _ hp hq => vx_monQ hp hq)
/-! contracts of methods with handlers -/
abbrev zMW (l : Launch) (s0 : State) (y : MethodName) (cc : ByteArray) (maxL : Nat) (ret : Option FieldType) (hh : List (Nat × Nat × Nat × Nat)) (rm : Room) (av : List Value) (H : Heap) (M : Nat → Prop) (P : Option Value → Heap → Prop) (PX : String → Heap → Prop) : Prop :=
  vx_Met l y (wsW_ y cc maxL ret hh) rm (zP s0 av H) (zQ H M P) (zX H M PX) rm.cells rm.slots (zA M H)
theorem z_monW {l : Launch} {s0 : State} {y : MethodName} {cc : ByteArray} {maxL : Nat} {ret : Option FieldType} {hh : List (Nat × Nat × Nat × Nat)} {rm : Room} {av : List Value} {H : Heap} {M : Nat → Prop} {P : Option Value → Heap → Prop} {PX : String → Heap → Prop} (h : zMW l s0 y cc maxL ret hh rm av H M P PX) : zMW l s0 y cc maxL ret hh rm av H M (fun r h1 => P r h1 ∧ zMk H h1) (fun E h1 => PX E h1 ∧ zMk H h1) :=
  MetFree.mono h (fun _ _ h => h) (fun _ _ _ _ _ h => h) (fun _ _ _ _ hp hq => vx_monQ hp hq)
theorem z_metW {l : Launch} {s0 : State} {G : zG} {y : MethodName} {cc : ByteArray} {maxL : Nat} {ret : Option FieldType} {hh : List (Nat × Nat × Nat × Nat)} {rm : Room} {av : List Value} {H : Heap} {M : Nat → Prop} {P : Option Value → Heap → Prop} {PX : String → Heap → Prop} (hE : zE l s0 G) (hy : plainName y.cls = true) (hsl : (lg_sl av).length ≤ maxL)
    (body : ∀ (p : Program) (e : Env) (s : State) (m : MethodId) (args : Array Value) (below : List Frame) (meth : Method) (c : Code) (Q : State → Prop) (ls : Array Slot), zC p l s0 G s m args c y.cls cc → c.maxLocals = maxL → meth.sig.returnType = ret → meth.locks = false → meth.name = y.name → s.heap = H → (∀ t, MQ below (zQ H M P) args s rm.cells rm.slots (zA M H) t → Q t) → c.exceptionTable.toList = tableOf hh → (∀ t, vx_MQ below (zQ H M P) (zX H M PX) args s rm.cells rm.slots (zA M H) t → Q t) → va_S (zA M H) H H [] → lv_has ls maxL (lv_args 0 av) → W p l e rm s m args below meth c H [] 0 0 Q (F0 m 0 ls [])) : zMW l s0 y cc maxL ret hh rm av H M P PX := by
  refine vx_ofWH (cc := cc) (maxL := maxL) (ret := ret) hy rfl ?_
  intro p e s m args below meth c s₁ B hml hv
  obtain ⟨rfl, hH, hW⟩ := hv
  have hts := atoms_spec (ws := wsW_ y cc maxL ret hh) B.pre
  have hl := lv_entry av (n := maxL) hsl
  have htab := vx_table (x := y) B (hts _ List.mem_cons_self)
  rw [lg_entry_eq, hH]
  exact body p e s m av.toArray below meth c _ _ ⟨B.exec, B.bytes, findClass_of_methodNamed B.named, fun w h => hts w (List.mem_cons_of_mem _ h), hE.k hW, hW, hE⟩ hml B.returns B.notSynchronized (name_of_methodNamed B.named B.method).1 hH (fun t h => by obtain ⟨o, b1, b2, b3, b4⟩ := h; exact ⟨o, b1, b2, Or.inl ⟨b3, b4⟩⟩) htab (fun t h => h) va_S.rf hl
section WCALL
variable {p : Program} {l : Launch} {e : Env} {R : Room} {s : State} {m : MethodId} {args : Array Value} {below : List Frame} {meth : Method} {c : Code} {H : Heap} {locs : List Loc} {cells slots : Nat} {Q : State → Prop}
variable {cc : ByteArray} {pc : Nat} {ls : Array Slot} {rest : List Value} {s0 : State} {G : zG} {own : String} {A : Nat → Prop} {H0 : Heap} {ws : va_W} {M : Nat → Prop} {mc ms : Nat} {P : Option Value → Heap → Prop} {PX : String → Heap → Prop}
variable {y : MethodName} {bytes : ByteArray} {maxL nL index n b : Nat} {ret : Option FieldType} {rm : Room} {As st : List Value} {M1 : Nat → Prop} {P1 : Option Value → Heap → Prop} {X1 : String → Heap → Prop} {C : String} {hh : List (Nat × Nat × Nat × Nat)}
theorem z_runVw (h : zC p l s0 G s m args c own cc) (hml : c.maxLocals = nL) (hls : ls.size = nL) (hM : zMW l s0 y bytes maxL ret hh rm (.ref b :: As) H M1 P1 X1) (hg : GoodIn lw_all (wsV own index C y (wsW_ y bytes maxL ret hh))) (hC : y.cls = C) (hd : zD y n) (hn : As.length = n) (hv : zRv s H b C) (hst : st = As.reverse ++ .ref b :: rest) (hw : (rest.map fun v => v.category).sum ≤ 8) (hR : zRm rm R maxL) (hf : cells + rm.cells ≤ R.cells ∧ slots + rm.slots ≤ R.slots) (d : decode cc pc = .ok (.invokevirtual index, 3)) :
    vx_Run p l e R s m args below meth c H locs cells slots rm.cells rm.slots (F0 m pc ls st) rest (zQ H M1 P1 (Value.ref b :: As).toArray) (zX H M1 X1) (zA M1 H) :=
  vx_runVX (own := own) (nL := nL) ⟨h.x, h.b, hml, h.o, h.t⟩ hM (vx_cwVW n h.t hg rfl rfl rfl ⟨hC, hd⟩ hR) ⟨zP_blind, hv, z_pre h⟩ rfl hn hls hst (lv_room hw) d hf
theorem z_runSw (h : zC p l s0 G s m args c own cc) (hml : c.maxLocals = nL) (hls : ls.size = nL) (hM : zMW l s0 y bytes maxL ret hh rm As H M1 P1 X1) (hg : GoodIn lw_all (va_wsS own index y (wsW_ y bytes maxL ret hh))) (hd : zD y n) (hn : As.length = n) (hst : st = As.reverse ++ rest) (hw : (rest.map fun v => v.category).sum ≤ 8) (hR : zRm rm R maxL) (hf : cells + rm.cells ≤ R.cells ∧ slots + rm.slots ≤ R.slots) (d : decode cc pc = .ok (.invokestatic index, 3)) :
    vx_Run p l e R s m args below meth c H locs cells slots rm.cells rm.slots (F0 m pc ls st) rest (zQ H M1 P1 As.toArray) (zX H M1 X1) (zA M1 H) :=
  vx_runSX (own := own) (nL := nL) ⟨h.x, h.b, hml, h.o, h.t⟩ hM (vx_cwSW n h.t hg rfl rfl rfl hd hR) ⟨zP_blind, z_pre h⟩ rfl hn hls hst (lv_room hw) d hf
end WCALL
/-! frames that hold a monitor, or have held one -/
abbrev FX (m : MethodId) (pc : Nat) (ls : Array Slot) (st : List Value) (en : List Addr) (mr : Nat) : JFrame := { method := m, pc := pc, locals := ls, stack := st, locked := none, entered := en, monitorRoom := mr }
section FXR
variable {p : Program} {l : Launch} {e : Env} {R : Room} {s : State} {m : MethodId} {args : Array Value} {below : List Frame} {meth : Method} {c : Code} {H : Heap} {locs : List Loc} {cells slots : Nat} {Q : State → Prop}
variable {cc : ByteArray} {pc : Nat} {ls : Array Slot} {rest : List Value} {s0 : State} {G : zG} {own : String} {A : Nat → Prop} {H0 : Heap} {ws : va_W} {M : Nat → Prop} {mc ms : Nat} {P : Option Value → Heap → Prop} {PX : String → Heap → Prop} {en : List Addr} {mr : Nat}
theorem fx_aload_n (hexec : p.tables.exec = Jvm.exec) (hb : c.code = cc) {k : Fin 4} {i : Nat} {x : Nat} (hdg : decode cc pc = .ok (.aload_n k, 1)) (hi : (k : Nat) = i) (hl : ls[i]? = some (.val (.ref x)))
    (k9 : W p l e R s m args below meth c H locs cells slots Q (FX m (pc + 1) ls (.ref x :: rest) en mr)) : W p l e R s m args below meth c H locs cells slots Q (FX m pc ls rest en mr) := by
  subst hi
  intro T hT X
  obtain ⟨t, a, b⟩ := k9 T hT X
  refine ⟨t, ?_, b⟩
  jvm_step X.here [X.here.top, hexec, hb, hdg, hl, Value.isRef]
  exact a
theorem fx_aload (hexec : p.tables.exec = Jvm.exec) (hb : c.code = cc) {i : Nat} {x : Nat} (hdg : decode cc pc = .ok (.aload i, 2)) (hl : ls[i]? = some (.val (.ref x)))
    (k9 : W p l e R s m args below meth c H locs cells slots Q (FX m (pc + 2) ls (.ref x :: rest) en mr)) : W p l e R s m args below meth c H locs cells slots Q (FX m pc ls rest en mr) := by
  intro T hT X
  obtain ⟨t, a, b⟩ := k9 T hT X
  refine ⟨t, ?_, b⟩
  jvm_step X.here [X.here.top, hexec, hb, hdg, hl, Value.isRef]
  exact a
theorem fx_iload_n (hexec : p.tables.exec = Jvm.exec) (hb : c.code = cc) {k : Fin 4} {i : Nat} {x : Int32} (hdg : decode cc pc = .ok (.iload_n k, 1)) (hi : (k : Nat) = i) (hl : ls[i]? = some (.val (.int x)))
    (k9 : W p l e R s m args below meth c H locs cells slots Q (FX m (pc + 1) ls (.int x :: rest) en mr)) : W p l e R s m args below meth c H locs cells slots Q (FX m pc ls rest en mr) := by
  subst hi
  intro T hT X
  obtain ⟨t, a, b⟩ := k9 T hT X
  refine ⟨t, ?_, b⟩
  jvm_step X.here [X.here.top, hexec, hb, hdg, hl]
  exact a
theorem fx_dup (hexec : p.tables.exec = Jvm.exec) (hb : c.code = cc) {va : Value} (hdg : decode cc pc = .ok (.dup, 1)) (hva : va.category = 1)
    (k9 : W p l e R s m args below meth c H locs cells slots Q (FX m (pc + 1) ls (va :: va :: rest) en mr)) : W p l e R s m args below meth c H locs cells slots Q (FX m pc ls (va :: rest) en mr) := by
  intro T hT X
  obtain ⟨t, a, b⟩ := k9 T hT X
  refine ⟨t, ?_, b⟩
  jvm_step X.here [X.here.top, hexec, hb, hdg, hva]
  exact a
theorem fx_pop (hexec : p.tables.exec = Jvm.exec) (hb : c.code = cc) {va : Value} (hdg : decode cc pc = .ok (.pop, 1)) (hva : va.category = 1)
    (k9 : W p l e R s m args below meth c H locs cells slots Q (FX m (pc + 1) ls rest en mr)) : W p l e R s m args below meth c H locs cells slots Q (FX m pc ls (va :: rest) en mr) := by
  intro T hT X
  obtain ⟨t, a, b⟩ := k9 T hT X
  refine ⟨t, ?_, b⟩
  jvm_step X.here [X.here.top, hexec, hb, hdg, hva]
  exact a
theorem fx_iconst (hexec : p.tables.exec = Jvm.exec) (hb : c.code = cc) {n : Int} {v : Int32} (hdg : decode cc pc = .ok (.iconst n, 1)) (hv : Int32.ofInt n = v)
    (k9 : W p l e R s m args below meth c H locs cells slots Q (FX m (pc + 1) ls (.int v :: rest) en mr)) : W p l e R s m args below meth c H locs cells slots Q (FX m pc ls rest en mr) := by
  intro T hT X
  obtain ⟨t, a, b⟩ := k9 T hT X
  refine ⟨t, ?_, b⟩
  rw [← hv] at a
  jvm_step X.here [X.here.top, hexec, hb, hdg]
  exact a
theorem fx_iadd (hexec : p.tables.exec = Jvm.exec) (hb : c.code = cc) {x y : Int32} (hdg : decode cc pc = .ok (.iadd, 1))
    (k9 : W p l e R s m args below meth c H locs cells slots Q (FX m (pc + 1) ls (.int (x + y) :: rest) en mr)) : W p l e R s m args below meth c H locs cells slots Q (FX m pc ls (.int y :: .int x :: rest) en mr) := by
  intro T hT X
  obtain ⟨t, a, b⟩ := k9 T hT X
  refine ⟨t, ?_, b⟩
  jvm_step X.here [X.here.top, hexec, hb, hdg]
  exact a
theorem fx_goto (hexec : p.tables.exec = Jvm.exec) (hb : c.code = cc) {off : Int} {tgt : Nat} (hdg : decode cc pc = .ok (.goto off, 3)) (ht : (pc : Int) + off = (tgt : Int)) (k9 : W p l e R s m args below meth c H locs cells slots Q (FX m tgt ls rest en mr)) : W p l e R s m args below meth c H locs cells slots Q (FX m pc ls rest en mr) := by
  intro T hT X
  obtain ⟨t, a, b⟩ := k9 T hT X
  refine ⟨t, ?_, b⟩
  jvm_step X.here [X.here.top, hexec, hb, hdg, ht]
  exact a
theorem fx_iretW {Qc : Array Value → State → Outcome → State → Prop} {free : Addr → Prop} {v : Int32} (hexec : p.tables.exec = Jvm.exec) (hb : c.code = cc) (hr : meth.sig.returnType = some .int)
    (hq : ∀ t : State, t.heap = H → s.WarmedH t.vm → Qc args s (.returned (some (.int v))) t) (hf : ∀ q ∈ locs, free q.base) (hdg : decode cc pc = .ok (.ireturn, 1)) (hlocks : meth.locks = false) : W p l e R s m args below meth c H locs cells slots (MQ below Qc args s cells slots free) (FX m pc ls [.int v] [] mr) := by
  intro T hT X
  obtain ⟨fs, hret, hrun, hended, hW, hframe⟩ := X.leave (v := some (.int v)) (fun h => by rw [hr] at h; cases h)
  have hmeth' : T.vm.method? m = some meth := X.method'
  refine ⟨T.setFrames fs, ?_, .returned (some (.int v)), hrun, hended, hq _ hT hW, locs, ⟨⟨_, rfl⟩, hW, hframe⟩, hf⟩
  jvm_step X.here [X.here.top, hexec, hb, hdg, hmeth', hr, narrow]
  (try refine ⟨rfl, ?_⟩); (try refine ⟨rfl, ?_⟩)
  first | (intro acts; rw [hret _ acts rfl rfl rfl]) | rw [hret _ _ rfl rfl rfl]
  exact Steps.refl _
theorem fx_iret (h : zC p l s0 G s m args c own cc) (hr : meth.sig.returnType = some .int) (hk : meth.locks = false) (hQ : ∀ t, MQ below (zQ H0 M P) args s mc ms (zA M H0) t → Q t) (hS : va_S (zA M H0) H0 H locs) (hc : cells ≤ mc ∧ slots ≤ ms) {v : Int} (hp : P (some (.int (iI v))) H) (d : decode cc pc = .ok (.ireturn, 1)) : W p l e R s m args below meth c H locs cells slots Q (FX m pc ls [.int (iI v)] [] mr) :=
  W.to hQ (W.widen hc.1 hc.2 (fx_iretW h.x h.b hr (z_q hS hp) hS.2.2 d hk))
theorem fx_get (h : zC p l s0 G s m args c own cc) {a ci : Nat} {fs : List Value} {C : String} {T : u_T} {N k index : Nat} {ref : String} {v : Value} (hc : zCl[ci]? = some (C, T, N)) (hin : ∀ w ∈ u_ws C T N, w ∈ lw_all) (ha : zAt G a (zOb ci fs) H) (hk : k < N) (hq : Cond.fieldLink own index ref (T k).2.1 (T k).2.2.1 ∈ lw_all) (hsame : ∀ x, s.fieldFound? (T k).1 (T k).2.1 (T k).2.2.1 = some x → s.fieldFound? ref (T k).2.1 (T k).2.2.1 = some x) (hv : fs[k]? = some v) (d : decode cc pc = .ok (.getfield index, 3))
    (kk : W p l e R s m args below meth c H locs cells slots Q (FX m (pc + 3) ls (v :: rest) en mr)) : W p l e R s m args below meth c H locs cells slots Q (FX m pc ls (.ref a :: rest) en mr) := by
  obtain ⟨r, h1, cell, q1, q2, q3, q4⟩ := zP1 ha 0 _ rfl
  cases Option.some.inj (h1.symm.trans hc)
  obtain ⟨hS, hfc, kC, hkC, hkind⟩ := h.k.1 ci _ hc
  obtain ⟨cf, kf, fi, f, hi, hsl⟩ := hS k hk
  refine W.getf h.x h.b h.o (h.t _ hq) (hsame _ hi) (u_facts hfc hkC (u_lays h.t hin hk) hi).1 q1 (by rw [q3]; exact fun h => by cases h) (v := v) ?_ rfl rfl d kk
  rw [hsl, q4 k hk]
  simp [vp_V, hv]
theorem fx_getn (h : zC p l s0 G s m args c own cc) {a ci : Nat} {fs : List Value} {C : String} {T : u_T} {N k index : Nat} {ref host : String} {v : Value} (hc : zCl[ci]? = some (C, T, N)) (hin : ∀ w ∈ u_ws C T N, w ∈ lw_all) (ha : zAt G a (zOb ci fs) H) (hk : k < N) (hq : Cond.fieldLinkNest own index ref (T k).2.1 (T k).2.2.1 host ∈ lw_tbl) (hsame : ∀ x, s.fieldFound? (T k).1 (T k).2.1 (T k).2.2.1 = some x → s.fieldFound? ref (T k).2.1 (T k).2.2.1 = some x) (hv : fs[k]? = some v) (d : decode cc pc = .ok (.getfield index, 3))
    (kk : W p l e R s m args below meth c H locs cells slots Q (FX m (pc + 3) ls (v :: rest) en mr)) : W p l e R s m args below meth c H locs cells slots Q (FX m pc ls (.ref a :: rest) en mr) := by
  obtain ⟨r, h1, cell, q1, q2, q3, q4⟩ := zP1 ha 0 _ rfl
  cases Option.some.inj (h1.symm.trans hc)
  obtain ⟨hS, hfc, kC, hkC, hkind⟩ := h.k.1 ci _ hc
  obtain ⟨cf, kf, fi, f, hi, hsl⟩ := hS k hk
  refine va_Wgetf h.x h.b h.o (z_nf h hq) (hsame _ hi) (u_facts hfc hkC (u_lays h.t hin hk) hi).1 q1 (by rw [q3]; exact fun h => by cases h) (v := v) ?_ rfl rfl d kk
  rw [hsl, q4 k hk]
  simp [vp_V, hv]
/-- a nest mate's field is written; its cell keeps its monitor, no other cell changes -/
theorem fx_putn (h : zC p l s0 G s m args c own cc) (hS0 : va_S A H0 H locs) {a ci : Nat} {fs : List Value} {C : String} {T : u_T} {N k index : Nat} {ref host : String} {v : Value} {ty : FieldType} {ty0 : Nat → FieldType} {μ : Monitor} (ha : zAt G a (zOb ci fs) H) (hmu : zMn a μ H) (hA : A a) (hc : zCl[ci]? = some (C, T, N)) (hin : ∀ w ∈ u_ws C T N, w ∈ lw_all) (hty : ∀ k, k < N → parseFieldDescriptor (T k).2.2.1 = some (ty0 k)) (hnm : ∀ a, a < N → ∀ b, b < N → a ≠ b → (T a).2.1 ≠ (T b).2.1) (hk : k < N) (hq : Cond.fieldLinkNest own index ref (T k).2.1 (T k).2.2.1 host ∈ lw_tbl) (hsame : ∀ x, s.fieldFound? (T k).1 (T k).2.1 (T k).2.2.1 = some x → s.fieldFound? ref (T k).2.1 (T k).2.2.1 = some x) (hfin : (T k).2.2.2 = false) (ht : ty0 k = ty) (hn : narrow ty v = v) (hfit : fits ty v = true) (hl : k < fs.length) (d : decode cc pc = .ok (.putfield index, 3))
    (kk : ∀ (H1 : Heap) (locs1 : List Loc), zAt G a (zOb ci (fs.set k v)) H1 → zMn a μ H1 → va_S A H0 H1 locs1 → zF (fun z => z = a) H H1 → W p l e R s m args below meth c H1 locs1 cells slots Q (FX m (pc + 3) ls rest en mr)) : W p l e R s m args below meth c H locs cells slots Q (FX m pc ls (v :: .ref a :: rest) en mr) := by
  have hap := va_apart (own := own) h.t hin ty0 hty hnm h.k hc
  obtain ⟨r, h1, cell, q1, q2, q3, q4⟩ := zP1 ha 0 _ rfl
  cases Option.some.inj (h1.symm.trans hc)
  obtain ⟨hS, hfc, kC, hkC, hkind⟩ := h.k.1 ci _ hc
  obtain ⟨cf, kf, fi, f, hi, hsl⟩ := hS k hk
  have hlay := h.t _ (hin _ (u_in_lay hk))
  unfold u_lay at hlay
  rw [if_neg (by rw [hfin]; decide)] at hlay
  have hst := (u_facts hfc hkC (u_lays h.t hin hk) hi).1
  have h6 := u_store hfc hkC hkind hlay hi (by rw [hty k hk, ht]) hn hfit
  obtain ⟨c9, m1, m2⟩ := hmu
  cases Option.some.inj (q1.symm.trans m1)
  refine va_WputK h.x h.b (f := f) h.o (z_nf h hq) (hsame _ hi) hst (by rw [q2]; exact h6) q1 q3 (by rw [hsl]; exact k2_hasslot (q4 k hk)) rfl rfl d fun H' e1 e2 e3 => ?_
  rw [hsl] at e1 ⊢
  exact kk H' _ ⟨_, hc, t_OB.to (V := updV (vp_V fs) k v) ⟨_, e1, q2, q3, t_set q4 hap hk v⟩ (fun j _ => vp_updV_set hl v j)⟩ ⟨_, e1, m2⟩ (hS0.put e2 e3 hA) ⟨Nat.le_of_eq e2.symm, fun q _ hn => e3 q hn⟩
variable {y : MethodName} {bytes : ByteArray} {maxL nL index n b : Nat} {ret : Option FieldType} {rm : Room} {As st : List Value} {M1 : Nat → Prop} {P1 : Option Value → Heap → Prop} {X1 : String → Heap → Prop} {C : String}
theorem fx_runV (h : zC p l s0 G s m args c own cc) (hml : c.maxLocals = nL) (hls : ls.size = nL) (hM : zM l s0 y bytes maxL ret rm (.ref b :: As) H M1 P1) (hg : GoodIn lw_all (wsV own index C y (ws_ y bytes maxL ret))) (hC : y.cls = C) (hd : zD y n) (hn : As.length = n) (hv : zRv s H b C) (hst : st = As.reverse ++ .ref b :: rest) (hw : 2 * mr + (rest.map fun v => v.category).sum ≤ 8) (hR : zRm rm R maxL) (hf : cells + rm.cells ≤ R.cells ∧ slots + rm.slots ≤ R.slots) (d : decode cc pc = .ok (.invokevirtual index, 3)) :
    va_Run p l e R s m args below meth c H locs cells slots rm.cells rm.slots (FX m pc ls st en mr) rest (zQ H M1 P1 (Value.ref b :: As).toArray) (zA M1 H) :=
  va_runV (own := own) (nL := nL) ⟨h.x, h.b, hml, h.o, h.t⟩ hM (cwV n h.t hg rfl rfl rfl ⟨hC, hd⟩ hR) ⟨zP_blind, hv, z_pre h⟩ rfl hn hls hst hw d hf
theorem fx_go {a : Array Value} {mc1 ms1 : Nat} (c1 s1 : Nat) (hr : va_Run p l e R s m args below meth c H locs cells slots mc1 ms1 (FX m pc ls st en mr) rest (zQ H M1 P1 a) (zA M1 H)) (hc : cells + mc1 ≤ c1 ∧ slots + ms1 ≤ s1) (hS : va_S (zA M H0) H0 H locs) (hM : ∀ q, M1 q → zA M H0 q)
    (kk : ∀ (r : Option Value) (H1 : Heap) (locs1 : List Loc), P1 r H1 → zF M1 H H1 → va_S (zA M H0) H0 H1 locs1 → W p l e R s m args below meth c H1 locs1 c1 s1 Q (FX m (pc + 3) ls (r.toList ++ rest) en mr)) : W p l e R s m args below meth c H locs cells slots Q (FX m pc ls st en mr) := by
  intro T hT X
  obtain ⟨v, st₀, t, T', L, h0, X', hL, e1, e2, ⟨r, hv, hp, hF⟩, st⟩ := hr T hT X
  cases hv
  rw [← e1] at hp hF
  obtain ⟨t2, a1, b1⟩ := W.widen hc.1 hc.2 (kk v T'.heap (locs ++ L) hp hF (z_keep hS hM hF hL)) T' rfl X'
  exact ⟨t2, st t2 a1, b1⟩
end FXR
/-- not caught here: no row of the table covers the place -/
theorem z_outW {p : Program} {l : Launch} {e : Env} {R : Room} {s : State} {m : MethodId} {args : Array Value} {below : List Frame} {meth : Method} {c : Code} {H H0 : Heap} {locs : List Loc} {cells slots : Nat} {Q : State → Prop} {pc : Nat} {ls : Array Slot} {rest : List Value} {M : Nat → Prop} {mc ms : Nat} {P : Option Value → Heap → Prop} {PX : String → Heap → Prop} {hh : List (Nat × Nat × Nat × Nat)} (htb : c.exceptionTable.toList = tableOf hh) (hout : (tableOf hh).all (fun x => !covers x pc) = true) (hk : meth.locks = false) (hX : ∀ t, vx_MQ below (zQ H0 M P) (zX H0 M PX) args s mc ms (zA M H0) t → Q t) (hS : va_S (zA M H0) H0 H locs) (hc : cells ≤ mc ∧ slots ≤ ms) {E : String} {ce : Cell} {q : Addr} (hce : H[q]? = some ce) (hcv : ce.vm = .none) (hcl : s.vm.findClass E = some ce.cls) (hp : PX E H) : vx_W p l e R s m args below meth c H locs cells slots Q (F0 m pc ls rest) q := by
  intro T hT X
  obtain ⟨t, a, b⟩ := vx_out (Qc := zQ H0 M P) (XC := zX H0 M PX) (mc := mc) (ms := ms) (free := zA M H0) (rest := rest) (pc := pc) (ls := ls) (fun x hx => by
    rw [htb] at hx
    have h9 := List.all_eq_true.mp hout x hx
    cases hc9 : covers x pc with
    | false => rfl
    | true => rw [hc9] at h9; cases h9) hk hce hcv hcl (fun t ht _ => ⟨by rw [ht]; exact hp, by rw [ht]; exact zS_F hS⟩) hS.2.2 hc.1 hc.2 T hT X
  exact ⟨t, a, hX t b⟩
theorem zMn.ext0 {a : Nat} {μ : Monitor} {H H1 : Heap} (h : zMn a μ H) (hF : zF M0 H H1) : zMn a μ H1 := h.ext hF id
theorem z_cst {p : Program} {l : Launch} {s0 : State} {G : zG} {s : State} {m : MethodId} {args : Array Value} {c : Code} {own : String} {cc : ByteArray} (h : zC p l s0 G s m args c own cc) {a b : String} (hq : Cond.castable a b ∈ lw_tbl) : (Cond.castable a b).before args s = true := by
  obtain ⟨a0, ht⟩ := h.e.1
  exact va_Nw.use rfl ((va_Nw.of (A := a0) rfl (ht _ hq)).warmC h.w)
