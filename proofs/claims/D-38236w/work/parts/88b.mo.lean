/-! ROWS: monitorenter, monitorexit, notify, notifyAll -/
set_option maxRecDepth 100000
section MON
variable {p : Program} {l : Launch} {e : Env} {R : Room} {s : State} {m : MethodId} {args : Array Value} {below : List Frame} {meth : Method} {c : Code} {H : Heap} {locs : List Loc} {cells slots : Nat} {Q : State → Prop}
variable {cc : ByteArray} {pc : Nat} {ls : Array Slot} {rest : List Value} {s0 : State} {G : zG} {own : String} {A : Nat → Prop} {H0 : Heap} {ws : va_W} {M : Nat → Prop} {mc ms : Nat} {P : Option Value → Heap → Prop} {PX : String → Heap → Prop} {en : List Addr} {mr : Nat} {nL : Nat}
theorem z_cur {T : State} (X : Stand p l e R s m args below meth c T locs cells slots) : T.cur = s.cur := by
  have h := congrArg State.cur X.same.1
  exact h
/-- the start with a monitor entered holds all that the start holds -/
theorem zC.ent (h : zC p l s0 G s m args c own cc) (a : Nat) (x : Cell) : zC p l s0 G (s.setCell a x) m args c own cc :=
  ⟨h.x, h.b, h.o, fun w hw => pay_in h.t lw_self w hw args (s.setCell a x) (State.WarmedH.refl s), h.k, h.w, h.e⟩
/-- one step: a monitor that is free is entered -/
theorem z_enterS {T : State} (X : Stand p l e R s m args below meth c T locs cells slots) (hexec : p.tables.exec = Jvm.exec) {g : JFrame} (hg : g.method = m) (hsize : g.locals.size = c.maxLocals) {a : Addr}
    (hstack : g.stack = .ref a :: rest) (hdg : decode c.code g.pc = .ok (.monitorenter, 1)) {cellT : Cell} (hT : T.heap[a]? = some cellT) (hfree : cellT.monitor.owner = none) (hsync : meth.isSynchronized = false)
    (hroom : 2 * (enteredFrame g a rest).monitorRoom + (rest.map fun v => v.category).sum ≤ R.locals) :
    ∀ target, Steps p.tables e below ((T.setCell a (cellT.withEntry T.cur)).setTop { enteredFrame g a rest with pc := g.pc + 1 }) target → Steps p.tables e below (T.setTop g) target := by
  have hown := Launch.admits_frameOwnsMonitors X.admits
  have hb : e.platform.stackBeyond ((((T.setCell a (cellT.withEntry T.cur)).setTop (enteredFrame g a rest)).threads[T.cur]?).map (·.stackBytes) |>.getD 0) ((T.setCell a (cellT.withEntry T.cur)).setTop (enteredFrame g a rest)).frames = false := by
    refine stackBeyond_setTop_eq_false (u := T.setCell a (cellT.withEntry T.cur)) X.here.top ?_
    have h1 := X.stackAbove (g := enteredFrame g a rest) hsize (K := 0) (by simpa using hroom)
    exact h1
  intro target hrest
  subst hg
  jvm_step X.here [hexec, hdg, monitorenter.wp_free (e := e) (s := T) (a := a) (rest := rest) (cell := cellT) (meth := meth) (f := g) X.here.top hstack hT (Or.inl hfree) hown X.method' hsync hb]
  exact hrest
theorem z_exitS {T : State} (X : Stand p l e R s m args below meth c T locs cells slots) (hexec : p.tables.exec = Jvm.exec) {g : JFrame} (hg : g.method = m) {a : Addr} {more : List Addr}
    (hstack : g.stack = .ref a :: rest) (hdg : decode c.code g.pc = .ok (.monitorexit, 1)) {cellT : Cell} (hT : T.heap[a]? = some cellT) (howner : cellT.monitor.owner = some T.cur) (hentered : g.entered = a :: more) :
    ∀ target, Steps p.tables e below ((T.setCell a cellT.left).setTop { exitedFrame g more rest with pc := g.pc + 1 }) target → Steps p.tables e below (T.setTop g) target := by
  have hown := Launch.admits_frameOwnsMonitors X.admits
  intro target hrest
  subst hg
  jvm_step X.here [hexec, hdg, monitorexit.wp_own (e := e) (s := T) (a := a) (rest := rest) (more := more) (cell := cellT) (f := g) X.here.top hstack hT howner hentered hown]
  exact hrest
/-- the monitor of a cell held once by the thread t -/
abbrev mnT (t : ThreadId) : Monitor := { owner := some t, count := 1, waitSet := [] }
theorem zAt_mon {a ci : Nat} {fs : List Value} {cell cell' : Cell} (h : zAt G a (zOb ci fs) H) (hc : H[a]? = some cell) (h1 : cell'.cls = cell.cls) (h2 : cell'.vm = cell.vm) (h3 : cell'.slots = cell.slots) : zAt G a (zOb ci fs) (H.setIfInBounds a cell') := by
  obtain ⟨r, h0, c0, q1, q2, q3, q4⟩ := zP1 h 0 _ rfl
  cases Option.some.inj (q1.symm.trans hc)
  have ha : a < H.size := (Array.getElem?_eq_some_iff.mp hc).1
  refine ⟨r, h0, cell', ?_, h1.trans q2, h2.trans q3, fun k hk => ?_⟩
  · simp [Array.getElem?_setIfInBounds, ha]
  · rw [h3]; exact q4 k hk
theorem zF_set {a : Nat} {x : Cell} : zF (fun z => z = a) H (H.setIfInBounds a x) := by
  refine ⟨by simp, fun q _ hn => ?_⟩
  simp [Array.getElem?_setIfInBounds, Ne.symm hn]
theorem va_S_set {a : Nat} {x : Cell} (hS : va_S A H0 H locs) (hA : A a) : va_S A H0 (H.setIfInBounds a x) locs := by
  refine ⟨by simpa using hS.1, fun q h1 h2 => ?_, hS.2.2⟩
  rw [← hS.2.1 q h1 h2]
  have hne : a ≠ q := fun z => h2 (z ▸ hA)
  simp [Array.getElem?_setIfInBounds, hne]
/-- monitorenter on a free monitor: the walk goes on over the start with that monitor entered -/
theorem fx_enter (h : zC p l s0 G s m args c own cc) (hml : c.maxLocals = nL) (hls : ls.size = nL) (hk : meth.locks = false) (hnm : meth.name ≠ "<clinit>") {a ci : Nat} {fs : List Value} (hS : va_S A H0 H locs) (hA : A a) (hs0 : zMn a {} s.heap) (ha : zAt G a (zOb ci fs) H) (hmu : zMn a {} H) (hR : 2 + (rest.map fun v => v.category).sum ≤ R.locals) (d : decode cc pc = .ok (.monitorenter, 1))
    (kk : ∀ (cell : Cell) (H1 : Heap), s.heap[a]? = some cell → cell.monitor = {} → zAt G a (zOb ci fs) H1 → zMn a (mnT s.cur) H1 → zF (fun z => z = a) H H1 → va_S A H0 H1 locs → W p l e R (s.setCell a (cell.withEntry s.cur)) m args below meth c H1 locs cells slots Q (FX m (pc + 1) ls rest [a] 1)) :
    W p l e R s m args below meth c H locs cells slots Q (F0 m pc ls (.ref a :: rest)) := by
  intro T hT X
  have hcur := z_cur X
  obtain ⟨cell, hc1, hc2⟩ := hs0
  obtain ⟨cellT, hd1, hd2⟩ := hmu
  have hsync : meth.isSynchronized = false := by
    unfold Method.locks at hk
    have h2 : (meth.name != "<clinit>") = true := by simpa using hnm
    rw [h2, Bool.and_true] at hk
    exact hk
  have hal : a < H.size := (Array.getElem?_eq_some_iff.mp hd1).1
  have hTc : T.heap[a]? = some cellT := by rw [hT]; exact hd1
  have st := z_enterS X h.x (g := F0 m pc ls (.ref a :: rest)) rfl (hls.trans hml.symm) (a := a) (rest := rest) rfl (by rw [h.b]; exact d) hTc (by rw [hd2]) hsync (by show 2 * (max 0 (0 + 1 + 0)) + _ ≤ _; exact hR)
  have X' := X.entered hc1 hTc s.cur
  rw [hcur] at st
  obtain ⟨t, a1, b1⟩ := kk cell (H.setIfInBounds a (cellT.withEntry s.cur)) hc1 hc2 (zAt_mon ha hd1 rfl rfl rfl) ⟨cellT.withEntry s.cur, by simp [Array.getElem?_setIfInBounds, hal], by simp [Cell.withEntry, hd2]⟩ zF_set (va_S_set hS hA) _ (by show T.heap.setIfInBounds a _ = _; rw [hT]) X'
  exact ⟨t, st t a1, b1⟩
/-- monitorexit: the walk goes on over the true start -/
theorem fx_exit (h : zC p l s0 G s m args c own cc) {a ci : Nat} {fs : List Value} {cell : Cell} (hS : va_S A H0 H locs) (hA : A a) (hc1 : s.heap[a]? = some cell) (hc2 : cell.monitor = {}) (ha : zAt G a (zOb ci fs) H) (hmu : zMn a (mnT s.cur) H) (d : decode cc pc = .ok (.monitorexit, 1))
    (kk : ∀ H1 : Heap, zAt G a (zOb ci fs) H1 → zMn a {} H1 → zF (fun z => z = a) H H1 → va_S A H0 H1 locs → W p l e R s m args below meth c H1 locs cells slots Q (FX m (pc + 1) ls rest [] 1)) :
    W p l e R (s.setCell a (cell.withEntry s.cur)) m args below meth c H locs cells slots Q (FX m pc ls (.ref a :: rest) [a] 1) := by
  intro T hT X
  have hcur0 := z_cur X
  have hcur : T.cur = s.cur := hcur0
  obtain ⟨cellT, hd1, hd2⟩ := hmu
  have hal : a < H.size := (Array.getElem?_eq_some_iff.mp hd1).1
  have hTc : T.heap[a]? = some cellT := by rw [hT]; exact hd1
  have st := z_exitS X h.x (g := FX m pc ls (.ref a :: rest) [a] 1) rfl (a := a) (more := []) (rest := rest) rfl (by rw [h.b]; exact d) hTc (by rw [hd2, hcur]) rfl
  have X' := X.left hc1 (Or.inl ⟨by rw [hc2], by rw [hc2]⟩) hTc
  have e1 : cellT.left = { cellT with monitor := {} } := by simp [Cell.left, hd2]
  obtain ⟨t, a1, b1⟩ := kk (H.setIfInBounds a cellT.left) (zAt_mon ha hd1 (by rw [e1]) (by rw [e1]) (by rw [e1])) ⟨cellT.left, by simp [Array.getElem?_setIfInBounds, hal], by rw [e1]⟩ zF_set (va_S_set hS hA) _ (by show T.heap.setIfInBounds a _ = _; rw [hT]) X'
  exact ⟨t, st t a1, b1⟩
end MON
/-! notify and notifyAll, natives of Object -/
def zrN1 : NativeRow := (Native.java_lang_Object.monitor.rows.drop 1).head (by decide)
def zrN2 : NativeRow := (Native.java_lang_Object.monitor.rows.drop 2).head (by decide)
theorem zrN1_ref (a : Addr) : zrN1.sem #[.ref a] = (do
        if !(← sync (.holds a)) then Native.java_lang_Object.monitor.notOwner "nat.java_lang_Object.notify/not-owner"
        match ← sync (.waitSet a) with
        | [] => mark "nat.java_lang_Object.notify/nobody"
        | ts@(t :: _) =>
          let pick ← choose .notify
          let u := ts.getD (pick.toNat % ts.length) t
          wakeWaiter a u (ts.filter (· != u))
          mark "nat.java_lang_Object.notify"
        Pure.pure none) := rfl
theorem zrN2_ref (a : Addr) : zrN2.sem #[.ref a] = (do
        if !(← sync (.holds a)) then Native.java_lang_Object.monitor.notOwner "nat.java_lang_Object.notifyAll/not-owner"
        for t in ← sync (.waitSet a) do wakeWaiter a t
        mark "nat.java_lang_Object.notifyAll"
        Pure.pure none) := rfl
section NTF
variable {E : CtlPost} {e : Env} {d : Bool} {acts : List Action} {s : State} {Q : Option Value → Pre} {a : Addr} {cell : Cell}
theorem zr_n1 (hcell : s.heap[a]? = some cell) (hown : cell.monitor.owner = some s.cur) (hws : cell.monitor.waitSet = []) (hq : ∀ d' acts', Q none d' acts' s) : wp (zrN1.sem #[.ref a]) Q E e d acts s := by
  rw [zrN1_ref]
  simp [Jvm.W.sync, SyncOp.full, SyncOp.run, SyncOp.acts, hcell, hown, hws]
  exact hq _ _
theorem zr_n2 (hcell : s.heap[a]? = some cell) (hown : cell.monitor.owner = some s.cur) (hws : cell.monitor.waitSet = []) (hq : ∀ d' acts', Q none d' acts' s) : wp (zrN2.sem #[.ref a]) Q E e d acts s := by
  rw [zrN2_ref]
  simp [Jvm.W.sync, SyncOp.full, SyncOp.run, SyncOp.acts, hcell, hown, hws]
  exact hq _ _
theorem zr_nx (hcell : s.heap[a]? = some cell) (hown : cell.monitor.owner ≠ some s.cur) (hE : ∀ acts', E (.throwNew "java/lang/IllegalMonitorStateException" (some "current thread is not owner")) acts' s) : wp (zrN1.sem #[.ref a]) Q E e d acts s := by
  rw [zrN1_ref]
  simp [Jvm.W.sync, SyncOp.full, SyncOp.run, SyncOp.acts, hcell, hown, Native.java_lang_Object.monitor.notOwner, Jvm.W.throwNew]
  exact hE _
end NTF
set_option maxRecDepth 100000 in
theorem zrN1_row (p : Program) : NativeRow.find? p.tables.natives "java/lang/Object" "notify" "()V" = some zrN1 := by
  cases p <;> rfl
set_option maxRecDepth 100000 in
theorem zrN2_row (p : Program) : NativeRow.find? p.tables.natives "java/lang/Object" "notifyAll" "()V" = some zrN2 := by
  cases p <;> rfl
abbrev yN1 : MethodName := ⟨"java/lang/Object", "notify", "()V"⟩
abbrev yN2 : MethodName := ⟨"java/lang/Object", "notifyAll", "()V"⟩
theorem zr_desc : parseMethodDescriptor "()V" = some { parameters := [], returnType := none } := by decide +kernel
/-- the thread holds the monitor, nobody waits -/
def zrOwn (g : Addr × Cell) (a : Array Value) (U : State) : Prop := a = #[.ref g.1] ∧ U.heap[g.1]? = some g.2 ∧ g.2.monitor.owner = some U.cur ∧ g.2.monitor.waitSet = []
section NTC
variable {p : Program} {l : Launch} {e : Env} {R : Room} {s : State} {m : MethodId} {args : Array Value} {below : List Frame} {meth : Method} {c : Code} {H : Heap} {locs : List Loc} {cells slots : Nat} {Q : State → Prop}
variable {cc : ByteArray} {pc : Nat} {ls : Array Slot} {rest : List Value} {s0 : State} {G : zG} {own : String} {A : Nat → Prop} {H0 : Heap} {M : Nat → Prop} {mc ms : Nat} {P : Option Value → Heap → Prop} {PX : String → Heap → Prop} {en : List Addr} {mr : Nat} {nL : Nat}
theorem zr_pay1 (hnat : (Cond.native yN1).before args s = true) (hinst : (Cond.instanceMethod yN1).before args s = true) (hfr : 1 ≤ R.frames) (hlo : 22 ≤ R.locals) :
    Back l R p e below s args yN1 3 8 (fun A a => ∃ g, zrOwn g a A.U) (fun A a v B => B = A ∧ ∀ g, zrOwn g a A.U → v = none) :=
  Back.of_nativeQ (P := zrOwn) (val := fun _ => none) (words := 1) (zrN1_row p) (nativeInstance hnat hinst zr_desc) hfr (by rw [nativeFrameWords_plain 1 (by decide)]; omega) fun g U a x _ hst hps hP => by
    obtain ⟨rfl, h1, h2, h3⟩ := hP
    exact ⟨rfl, by simp [seenByNative, hst, hps], fun fs Q hq => zr_n1 (s := U.setFrames fs) h1 h2 h3 hq⟩
theorem zr_pay2 (hnat : (Cond.native yN2).before args s = true) (hinst : (Cond.instanceMethod yN2).before args s = true) (hfr : 1 ≤ R.frames) (hlo : 22 ≤ R.locals) :
    Back l R p e below s args yN2 3 8 (fun A a => ∃ g, zrOwn g a A.U) (fun A a v B => B = A ∧ ∀ g, zrOwn g a A.U → v = none) :=
  Back.of_nativeQ (P := zrOwn) (val := fun _ => none) (words := 1) (zrN2_row p) (nativeInstance hnat hinst zr_desc) hfr (by rw [nativeFrameWords_plain 1 (by decide)]; omega) fun g U a x _ hst hps hP => by
    obtain ⟨rfl, h1, h2, h3⟩ := hP
    exact ⟨rfl, by simp [seenByNative, hst, hps], fun fs Q hq => zr_n2 (s := U.setFrames fs) h1 h2 h3 hq⟩
/-- a native of Object without arguments is called by a virtual call: up to its invocation -/
theorem zr_call {T : State} (X : Stand p l e R s m args below meth c T locs cells slots) (hexec : p.tables.exec = Jvm.exec) {C nm : String} {index : Nat} (hown : s.vm.findClass own = some m.cls)
    (hlink : (Cond.methodLink own index ⟨"java/lang/Object", nm, "()V"⟩).before args s = true) (hsame : (Cond.sameMethod "java/lang/Object" "java/lang/Object" nm "()V").before args s = true)
    (hnat : (Cond.native ⟨"java/lang/Object", nm, "()V"⟩).before args s = true) (hinst : (Cond.instanceMethod ⟨"java/lang/Object", nm, "()V"⟩).before args s = true) (hsel : (Cond.selects C ⟨"java/lang/Object", nm, "()V"⟩ ⟨"java/lang/Object", nm, "()V"⟩).before args s = true)
    {b : Addr} {cellB : Cell} (hcell : T.heap[b]? = some cellB) (hobj : cellB.vm.isStatics = false) (hcls : s.vm.findClass C = some cellB.cls) {g : JFrame} (hg : g.method = m) (hstack : g.stack = .ref b :: rest) (hdg : decode c.code g.pc = .ok (.invokevirtual index, 3)) :
    ∃ (vm₁ : Vm) (mk : MethodId), Stand p l e R s m args below meth c (T.setVm vm₁) locs cells slots ∧ (T.setVm vm₁).methodNamed? ⟨"java/lang/Object", nm, "()V"⟩ = some mk ∧
      ∀ target, Steps p.tables e below (doInvoke e ((T.setVm vm₁).setTop { g with stack := rest }) [] mk #[.ref b]).1 target → Steps p.tables e below (T.setTop g) target := by
  obtain ⟨r, kO, methO, hnO, hmO, hkO, N⟩ := NativeOf.of_instance hnat hinst (ps := []) (ret := none) zr_desc
  obtain ⟨r', methO', hnO', hmO', -, habs⟩ := Cond.instanceMethod_spec hinst
  cases hnO.symm.trans hnO'
  cases hmO.symm.trans hmO'
  obtain ⟨cn, ck, r1, hcn, hck, -, hf, hn1⟩ := Cond.sameMethod_found hsame
  cases hnO.symm.trans hn1
  obtain ⟨c2, r2, m2, q1, q2, q3, q4, mk, hmk, hmki⟩ := Cond.selects_spec hsel
  cases hcls.symm.trans q1
  cases hf.symm.trans q2
  cases hnO.symm.trans q3
  have hselP : selectMethod e.platform s.vm cellB.cls r = .method r := by rw [Launch.admits_selectMethod X.admits]; exact q4
  obtain ⟨vm', X', step⟩ := X.invokevirtualUp hexec hown hlink hsame (by decide) hnO hmO N.static (a := b) (cell := cellB) hcell (fun z h => by rw [h] at hobj; cases hobj) hselP hmO habs hmk hmki (g := g) hg (argsL := []) (rest := rest) (by rw [N.sig]; rfl) hstack hdg
  exact ⟨vm', r, X', X'.named hnO, fun target h => step _ fun acts => by rw [doInvoke_state]; exact h⟩
/-- a native that wakes nobody -/
theorem fx_note (h : zC p l s0 G s m args c own cc) (hml : c.maxLocals = nL) (hls : ls.size = nL) {C nm : String} {index b : Nat}
    (hlink : (Cond.methodLink own index ⟨"java/lang/Object", nm, "()V"⟩) ∈ lw_all) (hsame : (Cond.sameMethod "java/lang/Object" "java/lang/Object" nm "()V") ∈ lw_all)
    (hnat : (Cond.native ⟨"java/lang/Object", nm, "()V"⟩) ∈ lw_all) (hinst : (Cond.instanceMethod ⟨"java/lang/Object", nm, "()V"⟩) ∈ lw_all) (hsel : (Cond.selects C ⟨"java/lang/Object", nm, "()V"⟩ ⟨"java/lang/Object", nm, "()V"⟩) ∈ lw_all)
    (hv : zRv s H b C) (hmu : zMn b (mnT s.cur) H) (hpay : Back l R p e below s args ⟨"java/lang/Object", nm, "()V"⟩ 3 8 (fun A a => ∃ g, zrOwn g a A.U) (fun A a v B => B = A ∧ ∀ g, zrOwn g a A.U → v = none))
    (hw : 2 * mr + (rest.map fun v => v.category).sum ≤ 8) (d : decode cc pc = .ok (.invokevirtual index, 3))
    (kk : W p l e R s m args below meth c H locs cells slots Q (FX m (pc + 3) ls rest en mr)) : W p l e R s m args below meth c H locs cells slots Q (FX m pc ls (.ref b :: rest) en mr) := by
  intro T hT X
  obtain ⟨cellB, hcB, hoB, hclB⟩ := hv
  obtain ⟨c9, m1, m2⟩ := hmu
  cases Option.some.inj (hcB.symm.trans m1)
  have hcT : T.heap[b]? = some cellB := by rw [hT]; exact hcB
  obtain ⟨vm₁, mk, X1, hmk, st⟩ := zr_call X h.x h.o (h.t _ hlink) (h.t _ hsame) (h.t _ hnat) (h.t _ hinst) (h.t _ hsel) hcT hoB hclB (g := FX m pc ls (.ref b :: rest) en mr) rfl rfl (by rw [h.b]; exact d)
  have ho : zrOwn (b, cellB) #[.ref b] (T.setVm vm₁) := ⟨rfl, hcT, by rw [m2]; exact congrArg some (z_cur X1).symm, by rw [m2]⟩
  obtain ⟨v, B, X', ⟨rfl, hv⟩, hsteps⟩ := hpay m meth c ⟨T.setVm vm₁, locs, cells, slots⟩ (FX m pc ls rest en mr) (.invokevirtual index) mk #[.ref b] X1 rfl (hls.trans hml.symm) (by rw [h.b]; exact d) hw hmk ⟨(b, cellB), ho⟩
  cases hv (b, cellB) ho
  obtain ⟨t, a1, b1⟩ := kk (T.setVm vm₁) hT X1
  exact ⟨t, st _ (hsteps.trans a1), b1⟩
end NTC
