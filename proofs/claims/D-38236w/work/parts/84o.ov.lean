/-! ROWS: methods whose bytecode a native's row takes the place of: Math.copySign, Math.abs; Math.rint, that calls StrictMath.rint and goes on -/
set_option maxRecDepth 100000
def slV : Slot → Option Value
  | .val v => some v
  | _ => none
def slB (locals : Array Slot) (n : Nat) : Array Value := (locals.toList.filterMap slV).toArray.extract 0 n
/-- the step in which a row takes the place of the bytecode -/
theorem zo_step {tb : Tables} {e : Env} {s : State} {f : JFrame} {rest : List Frame} {k : Class} {x : Method} {row : NativeRow}
    (hf : s.frames = .java f :: rest) (hpc : f.pc = 0) (hk : s.vm.classes[f.method.cls]? = some k) (hx : k.methods[f.method.idx]? = some x) (hin : overriddenIn.contains k.name = true) (hboot : k.loader = none)
    (hrow : NativeRow.find? tb.natives k.name x.name x.desc = some row) :
    stepThread tb e s = afterNative e { method := f.method, args := slB f.locals (x.sig.parameters.length + (if x.isStatic then 0 else 1)), locked := f.locked } rest
      ((row.sem (slB f.locals (x.sig.parameters.length + (if x.isStatic then 0 else 1)))).run e (s.setFrames (.native { method := f.method, args := slB f.locals (x.sig.parameters.length + (if x.isStatic then 0 else 1)), locked := f.locked } :: rest))) := by
  have hov : overridden tb e s f = some row := by
    have hin' : k.name ∈ overriddenIn := by simpa using hin
    unfold overridden
    simp [hpc, hk, hx, hin', hboot, hrow]
  have hcount : argCount s f.method = x.sig.parameters.length + (if x.isStatic then 0 else 1) := by simp [argCount, hk, hx]
  unfold stepThread
  simp only [hf, hov, hcount, slB]
  rfl
theorem zo_resumed {tb : Tables} {e : Env} {s : State} {f : NFrame} {rest : List Frame} {k : Class} {x : Method} {row : NativeRow} {o : Outcome}
    (hf : s.frames = .native f :: rest) (hk : s.vm.classes[f.method.cls]? = some k) (hboot : k.loader = none) (hx : k.methods[f.method.idx]? = some x)
    (hrow : NativeRow.find? tb.natives k.name x.name x.desc = some row) (ha : f.answer = some o) : stepThread tb e s = afterNative e f rest ((row.resume f.stage f.saved o).run e s) := by
  unfold stepThread
  simp only [hf, hk, hx, hrow, ha, hboot, Option.bind_eq_bind, Option.bind_some, Option.pure_def, Option.isNone_none, if_true]
/-- what such an invocation is: its method, its class; its first step -/
theorem zo_at {p : Program} {e : Env} {y : MethodName} {cc : ByteArray} {maxL : Nat} {ret ret' : Option FieldType} {rm : Room} {ps : List FieldType} {s : State} {m : MethodId} {args : Array Value} {below : List Frame} (hst : Cond.static y ∈ lw_all)
    (hdesc : parseMethodDescriptor y.desc = some { parameters := ps, returnType := ret' }) (hf : s.frames = .invoking m args :: below) (happ : (headSpec (ws_ y cc maxL ret) rm).appliesLoose y e.platform s = true) :
    (s.status = .running ∧ s.curStatus? = some .runnable ∧ s.alone = true ∧ s.hears m below = true ∧ s.hasRoom e.platform rm = true ∧ (∀ w ∈ ws_ y cc maxL ret, w.before args s = true)) ∧
    ∃ (meth : Method) (c : Code) (k : Class), s.vm.method? m = some meth ∧ meth.code = some c ∧ c.maxLocals = maxL ∧ meth.sig.returnType = ret ∧ meth.locks = false ∧ s.vm.classes[m.cls]? = some k ∧ k.methods[m.idx]? = some meth ∧ k.name = y.cls ∧ meth.name = y.name ∧ meth.desc = y.desc ∧ k.loader = none ∧ meth.isStatic = true ∧ meth.sig.parameters = ps ∧
      (stepThread p.tables e s).1 = s.setFrames (.java (entryFrame m args maxL) :: below) := by
  obtain ⟨hrun, hable, halone, hname, hhears, hinit, hroom, hpre⟩ := (Spec.appliesLoose_iff hf).mp happ
  have hts : ∀ w ∈ ws_ y cc maxL ret, w.before args s = true := atoms_spec (ws := ws_ y cc maxL ret) hpre
  obtain ⟨meth, c, hmeth, hcode, hbytes, hlocals, hret, hlocks, -, hsig⟩ := Cond.code_spec hname (hts _ List.mem_cons_self)
  obtain ⟨k, hkk, hkname⟩ := className_of_methodNamed hname
  obtain ⟨hmn, hmd⟩ := name_of_methodNamed hname hmeth
  have hps : meth.sig.parameters = ps := by
    rw [hdesc] at hsig
    rw [← Option.some.inj hsig]
  have hcur := State.cur_lt_of_frames hf
  have hfull : e.platform.stackFull (s.setFrames below).me (s.setFrames below).frames c.maxLocals = false := by
    obtain ⟨-, h1, -, h2⟩ := State.hasRoom_stack hroom
    rw [hf, List.length_cons] at h1
    rw [State.localsInUse_invoking hf hmeth hcode] at h2
    have hw := stackUse_le_stackWeight below
    rw [State.frames_setFrames _ hcur]
    exact Platform.stackFull_eq_false (by rw [State.stackLimits_setFrames]; omega) (by rw [State.stackLimits_setFrames]; omega)
  refine ⟨⟨hrun, hable, halone, hhears, hroom, hts⟩, meth, c, k, hmeth, hcode, hlocals, hret, hlocks, hkk, by simpa [Vm.method?, hkk] using hmeth, hkname, hmn, hmd, Vm.bootOf_findClass (findClass_of_methodNamed hname) hkk, Cond.static_spec hname hmeth (hts _ (List.mem_cons_of_mem _ hst)), hps, ?_⟩
  rw [stepThread_invoking hf, (doInvoke_java (s := s.setFrames below) (e := e) (meth := meth) (code := c) hmeth hcode hlocks hfull).1]
  simp only [State.pushFrame, State.frames_setFrames _ hcur, State.setFrames_setFrames, hlocals, entryFrame]
/-- a method that a row answers at once -/
theorem z_ovM {l : Launch} {s0 : State} {y : MethodName} {cc : ByteArray} {maxL : Nat} {ret ret' : Option FieldType} {rm : Room} {av : List Value} {H : Heap} {P : Option Value → Heap → Prop} {row : NativeRow} {ps : List FieldType} {v : Value}
    (hin : overriddenIn.contains y.cls = true) (hrow : ∀ p : Program, NativeRow.find? p.tables.natives y.cls y.name y.desc = some row) (hst : Cond.static y ∈ lw_all) (hdesc : parseMethodDescriptor y.desc = some { parameters := ps, returnType := ret' })
    (hg : slB (argsToLocals av.toArray maxL) (ps.length + 0) = av.toArray) (hret0 : ret.isNone = false)
    (hw : ∀ (e : Env) (U : State) (Q : Option Value → Pre), (∀ d' acts', Q (some v) d' acts' U) → wp (row.sem av.toArray) Q (fun _ _ _ => False) e false [] U) (hP : P (some v) H) : zM l s0 y cc maxL ret rm av H M0 P := by
  intro p e ha hc hk s m args below hf happ hv _
  obtain ⟨rfl, hH, hW⟩ := hv
  obtain ⟨⟨hrun, hable, halone, hhears, hroom, hts⟩, meth, c, k, hmeth, hcode, hlocals, hret, hlocks, hkk, hx, hkn, hmn, hmd, hboot, hstat, hps, hstep⟩ := zo_at (p := p) hst hdesc hf happ
  have hcur := State.cur_lt_of_frames hf
  have hf1 := State.frames_setFrames (s := s) (.java (entryFrame m av.toArray maxL) :: below) hcur
  have hf2 := State.frames_setFrames (s := s) (.native { method := m, args := av.toArray, locked := none } :: below) hcur
  obtain ⟨fs, hfs⟩ := handOver_isSome (s := s.setFrames (.native { method := m, args := av.toArray, locked := none } :: below)) (m := m) (some v) (below := below) hhears
  have hgiven : slB (entryFrame m av.toArray maxL).locals (meth.sig.parameters.length + (if meth.isStatic then 0 else 1)) = av.toArray := by
    rw [hps, hstat]; exact hg
  have hstep2 : (stepThread p.tables e (s.setFrames (.java (entryFrame m av.toArray maxL) :: below))).1 = s.setFrames fs := by
    rw [zo_step (f := entryFrame m av.toArray maxL) (k := k) (x := meth) (row := row) hf1 rfl hkk hx (by rw [hkn]; exact hin) hboot (by rw [hkn, hmn, hmd]; exact hrow p), hgiven, State.setFrames_setFrames]
    have hw1 : wpRun (row.sem av.toArray) (fun v' s₁ _ => v' = some v ∧ s₁ = s.setFrames (.native { method := m, args := av.toArray, locked := none } :: below)) (fun _ _ _ => False) e (s.setFrames (.native { method := m, args := av.toArray, locked := none } :: below)) := hw e _ _ (fun _ _ => ⟨rfl, rfl⟩)
    have hw2 := (wpRun_iff_run _ _ _ _ _).mp hw1
    cases hrn : (row.sem av.toArray).run e (s.setFrames (.native { method := m, args := av.toArray, locked := none } :: below)) with
    | ctl x s₁ acts₁ => rw [hrn] at hw2; cases x <;> exact hw2.elim
    | ok v' s₁ acts₁ =>
      rw [hrn] at hw2
      obtain ⟨rfl, rfl⟩ := hw2
      show (afterNative e { method := m, args := av.toArray, locked := none } below ((row.sem av.toArray).run e (s.setFrames (.native { method := m, args := av.toArray, locked := none } :: below)))).1 = _
      rw [hrn]
      show (doReturn e (s.setFrames (.native { method := m, args := av.toArray, locked := none } :: below)) acts₁ (some v)).1 = _
      rw [doReturn_native (f := { method := m, args := av.toArray, locked := none }) hf2 rfl hfs, State.setFrames_setFrames]
  have hend : Ended (s.setFrames fs) below (.returned (some v)) := by
    have h9 := ended_of_handOver hfs (by show s.cur < (s.setFrames _).threads.size; simpa [State.setFrames] using hcur) (by
      rcases below with _ | ⟨y9, r⟩
      · simp only [State.hears, hmeth, Option.any_some, hret] at hhears
        rw [hret0] at hhears
        cases hhears
      · cases y9
        case java g => exact Or.inr ⟨_, _, rfl, trivial⟩
        case native g => exact Or.inr ⟨_, _, rfl, trivial⟩
        case proc g => exact Or.inr ⟨_, _, rfl, trivial⟩
        all_goals
          simp only [State.hears, hmeth, Option.any_some, hret] at hhears
          rw [hret0] at hhears
          cases hhears)
    rw [State.setFrames_setFrames] at h9
    exact h9
  have hS2 : Steps p.tables e below (s.setFrames (.java (entryFrame m av.toArray maxL) :: below)) (s.setFrames fs) :=
    Steps.head ⟨hrun, by simpa using hable, by simpa using halone⟩ ⟨[.java (entryFrame m av.toArray maxL)], by rw [hf1]; rfl, by simp, by simp⟩ (hstep2 ▸ Steps.refl _)
  obtain ⟨n, hn, hwn⟩ := Steps.head (tb := p.tables) (e := e) ⟨hrun, hable, halone⟩ ⟨[.invoking m av.toArray], hf, by simp, by simp⟩ (hstep ▸ hS2)
  obtain ⟨t, ht, -⟩ := State.frames_cons hf
  refine ⟨n, .returned (some v), hwn, hn ▸ hrun, hn ▸ hend, ?_⟩
  rw [hn]
  refine ⟨⟨some v, rfl, by show P (some v) s.heap; rw [hH]; exact hP, by show zF M0 H s.heap; rw [hH]; exact zF.rf⟩, [], ⟨⟨_, rfl⟩, State.WarmedH.refl s, ?_⟩, fun q hq => nomatch hq⟩
  exact ((State.sameButNew.refl s ht).setFrames fs hcur).mono (Nat.zero_le _) (Nat.zero_le _)
/-! Math.rint -/
def zwR : NativeRow := (NativeRow.find? Native.java_lang_Math.nans.rows "java/lang/Math" "rint" "(D)D").get (by decide +kernel)
def zwC : NativeRow := (NativeRow.find? Native.java_lang_Math.nans.rows "java/lang/Math" "copySign" "(DD)D").get (by decide +kernel)
def zwA : NativeRow := (NativeRow.find? Native.java_lang_Math.nans.rows "java/lang/Math" "abs" "(D)D").get (by decide +kernel)
set_option maxRecDepth 100000 in
theorem zwR_row (p : Program) : NativeRow.find? p.tables.natives "java/lang/Math" "rint" "(D)D" = some zwR := by
  cases p <;> rfl
set_option maxRecDepth 100000 in
theorem zwC_row (p : Program) : NativeRow.find? p.tables.natives "java/lang/Math" "copySign" "(DD)D" = some zwC := by
  cases p <;> rfl
set_option maxRecDepth 100000 in
theorem zwA_row (p : Program) : NativeRow.find? p.tables.natives "java/lang/Math" "abs" "(D)D" = some zwA := by
  cases p <;> rfl
theorem zwA_wp {a : UInt64} (ha : (a &&& 0x7fffffffffffffff) &&& 0x7fffffffffffffff ≤ 0x7ff0000000000000) (e : Env) (U : State) (Q : Option Value → Pre) (hq : ∀ d' acts', Q (some (.double (a &&& 0x7fffffffffffffff))) d' acts' U) : wp (zwA.sem #[.double a]) Q (fun _ _ _ => False) e false [] U := by
  have hsem : zwA.sem #[.double a] = (do
      let r ← anyNaN64 (a &&& 0x7fffffffffffffff)
      mark "nat.java_lang_Math.abs"
      Pure.pure (some (.double r))) := rfl
  rw [hsem]
  simp [jvm, anyNaN64, ha]
  exact hq _ _
theorem zwC_wp {a b : UInt64} (hb : FP.dIsNaN b = false) (e : Env) (U : State) (Q : Option Value → Pre) (hq : ∀ d' acts', Q (some (.double ((a &&& 0x7fffffffffffffff) ||| (if b >>> 63 == 1 then 0x8000000000000000 else 0)))) d' acts' U) : wp (zwC.sem #[.double a, .double b]) Q (fun _ _ _ => False) e false [] U := by
  have hsem : zwC.sem #[.double a, .double b] = (do
      let negative ← Native.java_lang_Math.nans.signOf (FP.dIsNaN b) (b >>> 63 == 1)
      mark "nat.java_lang_Math.copySign"
      Pure.pure (some (.double ((a &&& 0x7fffffffffffffff) ||| (if negative then 0x8000000000000000 else 0))))) := rfl
  rw [hsem]
  simp [jvm, Native.java_lang_Math.nans.signOf, hb]
  simpa using hq _ _
theorem zwR_run (b : UInt64) (e : Env) (S : State) {cS : ClassId} {kS : Class} {i : Nat} (hf : S.vm.findClass "java/lang/StrictMath" = some cS) (hk : S.vm.classes[cS]? = some kS) (hi : kS.init = .initialized) (hm : kS.findMethod "rint" "(D)D" = some i) :
    ∃ acts, (zwR.sem #[.double b]).run e S = .ctl (.call ⟨cS, i⟩ #[.double b] 1 #[]) S acts := by
  have hsem : zwR.sem #[.double b] = (do
      let c ← classNamed "java/lang/StrictMath"
      ensureInit c
      let some i := (← theClass c).findMethod "rint" "(D)D" | modelBug ("StrictMath lacks " ++ "rint")
      callThen ⟨c, i⟩ #[.double b] 1 #[]) := rfl
  have hw : wpRun (zwR.sem #[.double b]) (fun _ _ _ => False) (fun c s₂ _ => c = .call ⟨cS, i⟩ #[.double b] 1 #[] ∧ s₂ = S) e S := by
    rw [hsem]
    simp [jvm, wpRun, Jvm.W.classNamed_ready hf, Jvm.W.ensureInit_ready ⟨kS, hk, hi⟩, theClass, callThen, hk, hm]
    exact ⟨rfl, rfl, rfl, rfl⟩
  have hw' := (wpRun_iff_run _ _ _ _ _).mp hw
  cases hr : (zwR.sem #[.double b]).run e S with
  | ok v s₂ acts₂ => rw [hr] at hw'; exact hw'.elim
  | ctl x s₂ acts₂ =>
    rw [hr] at hw'
    have h2 : x = .call ⟨cS, i⟩ #[.double b] 1 #[] ∧ s₂ = S := by cases x <;> first | exact hw' | exact hw'.elim
    obtain ⟨rfl, rfl⟩ := h2
    exact ⟨_, rfl⟩
theorem zwR_res {r : UInt64} (hn : r &&& 0x7fffffffffffffff ≤ 0x7ff0000000000000) (e : Env) (S : State) : ∃ acts, (zwR.resume 1 #[] (.returned (some (.double r)))).run e S = .ok (some (.double r)) S acts := by
  have hsem : zwR.resume 1 #[] (.returned (some (.double r))) = (do
      let r ← anyNaN64 r
      mark "nat.java_lang_Math.rint"
      Pure.pure (some (.double r))) := rfl
  have hw : wpRun (zwR.resume 1 #[] (.returned (some (.double r)))) (fun v s₂ _ => v = some (.double r) ∧ s₂ = S) (fun _ _ _ => False) e S := by
    rw [hsem]
    simp [jvm, wpRun, anyNaN64, hn]
  have hw' := (wpRun_iff_run _ _ _ _ _).mp hw
  cases hr : (zwR.resume 1 #[] (.returned (some (.double r)))).run e S with
  | ok v s₂ acts₂ => rw [hr] at hw'; obtain ⟨rfl, rfl⟩ := hw'; exact ⟨_, rfl⟩
  | ctl x s₂ acts₂ => rw [hr] at hw'; cases x <;> exact hw'.elim
theorem zw_descD : parseMethodDescriptor "(D)D" = some { parameters := [.double], returnType := some .double } := by decide +kernel
theorem zw_descDD : parseMethodDescriptor "(DD)D" = some { parameters := [.double, .double], returnType := some .double } := by decide +kernel
theorem zw_bytes (s : State) (F : List Frame) : (s.setFrames F).me.stackBytes = s.me.stackBytes := by
  unfold State.me State.setFrames
  simp only [Array.getElem?_modify]
  cases s.threads[s.cur]? <;> simp
/-- room under a native's frame -/
theorem zw_room {s : State} {pl : Platform} {m mS : MethodId} {a : Array Value} {below : List Frame} {nf : NFrame} {meth methS : Method} {c cS : Code} {rm rmS : Room} (hf : s.frames = .invoking m a :: below) (hm : s.vm.method? m = some meth) (hc : meth.code = some c) (hmS : s.vm.method? mS = some methS) (hcS : methS.code = some cS) (hw : nf.words ≤ 1024)
    (hR : rmS.frames + 2 ≤ rm.frames ∧ cS.maxLocals + rmS.locals + 1030 ≤ rm.locals ∧ rmS.cells ≤ rm.cells ∧ rmS.slots ≤ rm.slots) (h : s.hasRoom pl rm = true) : (s.setFrames (.invoking mS a :: .native nf :: below)).hasRoom pl rmS = true := by
  have hcur := State.cur_lt_of_frames hf
  have hwt : Frame.weight (.native nf) = 1024 := by show max nf.words vmFrameWords = 1024; unfold vmFrameWords; omega
  have e1 := State.localsInUse_invoking hf hm hc
  have e2 := State.localsInUse_invoking (s := s.setFrames (.invoking mS a :: .native nf :: below)) (State.frames_setFrames _ hcur) hmS hcS
  have e3 : stackWeight (.native nf :: below) = 1024 + stackWeight below := by
    show ((Frame.native nf :: below).map Frame.weight).sum = _
    rw [List.map_cons, List.sum_cons, hwt]; rfl
  rw [e3] at e2
  have hfr : (s.setFrames (.invoking mS a :: .native nf :: below)).frames.length = s.frames.length + 1 := by rw [State.frames_setFrames _ hcur, hf]; simp
  have hsu : (s.setFrames (.invoking mS a :: .native nf :: below)).slotsUsed = s.slotsUsed := rfl
  have hhp : (s.setFrames (.invoking mS a :: .native nf :: below)).heap = s.heap := rfl
  have hst : (s.setFrames (.invoking mS a :: .native nf :: below)).slotsTrue = s.slotsTrue := rfl
  simp only [State.hasRoom, Bool.and_eq_true, decide_eq_true_eq] at h ⊢
  rw [State.stackLimits_setFrames, zw_bytes, hfr, e2, hsu, hhp, hst]
  rw [e1] at h
  obtain ⟨⟨⟨⟨a0, a1, a2, a3, a4, a5⟩, b1⟩, c1⟩, d1⟩ := h
  exact ⟨⟨⟨⟨by omega, by omega, by omega, by omega, by omega, a5⟩, by omega⟩, by omega⟩, d1⟩
set_option maxHeartbeats 2000000 in
theorem z_ovR {l : Launch} {s0 : State} {H : Heap} {x r : UInt64} {rm rmS : Room} (hM : zM l s0 yJ26_rint cJ26_rint 6 (some .double) rmS [.double x] H M0 (rd (fun y _ => y = r))) (hr : r &&& 0x7fffffffffffffff ≤ 0x7ff0000000000000)
    (hR : rmS.frames + 2 ≤ rm.frames ∧ 6 + rmS.locals + 1030 ≤ rm.locals ∧ rmS.cells ≤ rm.cells ∧ rmS.slots ≤ rm.slots) : zM l s0 yJ10_rint cJ10_rint 2 (some .double) rm [.double x] H M0 (rd (fun y _ => y = r)) := by
  intro p e ha hc hk s m args below hf happ hv _
  obtain ⟨rfl, hH, hW⟩ := hv
  obtain ⟨⟨hrun, hable, halone, hhears, hroom, hts⟩, meth, c, k, hmeth, hcode, hlocals, hret, hlocks, hkk, hx, hkn, hmn, hmd, hboot, hstat, hps, hstep⟩ := zo_at (p := p) q263 zw_descD hf happ
  have hcur := State.cur_lt_of_frames hf
  have hf1 := State.frames_setFrames (s := s) (.java (entryFrame m #[.double x] 2) :: below) hcur
  have hCS : (Cond.code yJ26_rint cJ26_rint 6 (some .double)).before #[.double x] s = true := hts _ (List.mem_cons_of_mem _ q267)
  obtain ⟨mS, hnS⟩ := Cond.code_named hCS
  obtain ⟨methS, cS, hmethS, hcodeS, -, hlocS, -, -, -, -⟩ := Cond.code_spec hnS hCS
  obtain ⟨kS, hkS, hkSn⟩ := className_of_methodNamed hnS
  have hfS : s.vm.findClass "java/lang/StrictMath" = some mS.cls := findClass_of_methodNamed hnS
  have hiS : kS.init = .initialized := Cond.initialized_spec hfS hkS (hts _ (List.mem_cons_of_mem _ q100))
  have hmS : kS.findMethod "rint" "(D)D" = some mS.idx := by
    have h := hnS
    simp only [State.methodNamed?, Option.bind_eq_bind, Option.pure_def] at h
    rw [show yJ26_rint.cls = "java/lang/StrictMath" from rfl, hfS] at h
    simp only [Option.bind_some, hkS] at h
    cases hfm : kS.findMethod yJ26_rint.name yJ26_rint.desc with
    | none => rw [hfm] at h; cases h
    | some j => rw [hfm] at h; simp at h; rw [← h]; exact hfm
  have hgiven : slB (entryFrame m #[.double x] 2).locals (meth.sig.parameters.length + (if meth.isStatic then 0 else 1)) = #[.double x] := by
    rw [hps, hstat]; rfl
  have hwd : ∀ F : List Frame, (((s.setFrames F).vm.classes[m.cls]?).bind fun k => (k.methods[m.idx]?).map fun n => upcallWords k.name n.name).getD 0 = 0 := by
    intro F
    show ((s.vm.classes[m.cls]?).bind fun k => (k.methods[m.idx]?).map fun n => upcallWords k.name n.name).getD 0 = 0
    simp [hkk, hx, hkn, hmn, yJ10_rint, RJ10, upcallWords]
  obtain ⟨acts₂, hr2⟩ := zwR_run x e (s.setFrames (.native { method := m, args := #[.double x], locked := none } :: below)) (cS := mS.cls) (kS := kS) (i := mS.idx) hfS hkS hiS hmS
  have hstep2 : (stepThread p.tables e (s.setFrames (.java (entryFrame m #[.double x] 2) :: below))).1 = (doInvoke e (s.setFrames (.native { method := m, args := #[.double x], stage := 1, saved := #[], awaiting := true, answer := none, words := 0 } :: below)) acts₂ ⟨mS.cls, mS.idx⟩ #[.double x]).1 := by
    rw [zo_step (f := entryFrame m #[.double x] 2) (k := k) (x := meth) (row := zwR) hf1 rfl hkk hx (by rw [hkn]; decide) hboot (by rw [hkn, hmn, hmd]; exact zwR_row p), hgiven, State.setFrames_setFrames]
    show (afterNative e { method := m, args := #[.double x], locked := none } below ((zwR.sem #[.double x]).run e (s.setFrames (.native { method := m, args := #[.double x], locked := none } :: below)))).1 = _
    rw [hr2]
    simp only [afterNative, State.setFrames_setFrames]
    rw [hwd]
  have hfN : (s.setFrames (.native { method := m, args := #[.double x], stage := 1, saved := #[], awaiting := true, answer := none, words := 0 } :: below)).frames = [.native { method := m, args := #[.double x], stage := 1, saved := #[], awaiting := true, answer := none, words := 0 }] ++ below := State.frames_setFrames _ hcur
  have eF : (s.setFrames (.native { method := m, args := #[.double x], stage := 1, saved := #[], awaiting := true, answer := none, words := 0 } :: below)).pushFrame (.invoking ⟨mS.cls, mS.idx⟩ #[.double x]) = s.setFrames (.invoking mS #[.double x] :: .native { method := m, args := #[.double x], stage := 1, saved := #[], awaiting := true, answer := none, words := 0 } :: below) := by
    rw [State.pushFrame, State.frames_setFrames _ hcur, State.setFrames_setFrames]
  have happS : (headSpec (ws_ yJ26_rint cJ26_rint 6 (some .double)) rmS).appliesLoose yJ26_rint e.platform ((s.setFrames (.native { method := m, args := #[.double x], stage := 1, saved := #[], awaiting := true, answer := none, words := 0 } :: below)).pushFrame (.invoking ⟨mS.cls, mS.idx⟩ #[.double x])) = true := by
    rw [eF]
    refine (Spec.appliesLoose_iff (State.frames_setFrames _ hcur)).mpr ⟨hrun, by simpa using hable, by simpa using halone, hnS, rfl, State.classRipe_of (s := s.setFrames _) hkS hiS, zw_room hf hmeth hcode hmethS hcodeS (Nat.zero_le _) (by rw [hlocS]; exact hR) hroom, ?_⟩
    rw [Cond.before_setFrames]
    refine atoms_intro (fun w hw => ?_)
    rcases List.mem_cons.mp hw with rfl | hw
    · exact hCS
    · exact hts _ (List.mem_cons_of_mem _ hw)
  obtain ⟨o, s₂, hsteps, hrun2, hend, ⟨r0, ho, ⟨z, hz, hzr⟩, hF⟩, L, hfe, hL⟩ := Steps.callFree hM p ha hc hk (s := s.setFrames (.native { method := m, args := #[.double x], stage := 1, saved := #[], awaiting := true, answer := none, words := 0 } :: below)) (m := ⟨mS.cls, mS.idx⟩) (args := #[.double x]) (acts := acts₂) (mid := [.native { method := m, args := #[.double x], stage := 1, saved := #[], awaiting := true, answer := none, words := 0 }]) (below := below) hfN happS (by rw [eF]; exact ⟨rfl, hH, hW⟩) trivial
  subst ho; subst hz; subst hzr
  rw [hfN] at hend
  replace hend : s₂.frames = .native { method := m, args := #[.double x], stage := 1, saved := #[], awaiting := false, answer := some (.returned (some (.double z))), words := 0 } :: below := hend
  rw [eF] at hfe
  obtain ⟨-, hW₂, hsame⟩ := hfe
  have hal : s.vm.Alike s₂.vm := hW₂.alike
  obtain ⟨k', hk', ek⟩ := hal.2.2 _ _ hkk
  have hboot' : k'.loader = none := by rw [ek]; exact hboot
  have hx' : k'.methods[m.idx]? = some meth := by rw [ek]; exact hx
  have hkn' : k'.name = "java/lang/Math" := by rw [ek]; exact hkn
  obtain ⟨acts₃, hr3⟩ := zwR_res hr e s₂
  obtain ⟨fs, hfs⟩ := handOver_isSome (s := s) (m := m) (some (.double z)) (below := below) hhears
  have hfs2 : handOver s₂ (some (.double z)) below = some fs := by
    have h1 : handOver s₂ (some (.double z)) below = handOver (s.setVm s₂.vm) (some (.double z)) below := by
      rcases below with _ | ⟨y, r⟩
      · rfl
      · cases y <;> first | rfl | simp [handOver, State.code?_eq]
    rw [h1, handOver_setVm hal]
    exact hfs
  have hstep4 : (stepThread p.tables e s₂).1 = s₂.setFrames fs := by
    rw [zo_resumed (f := { method := m, args := #[.double x], stage := 1, saved := #[], awaiting := false, answer := some (.returned (some (.double z))), words := 0 }) (o := .returned (some (.double z))) hend hk' hboot' hx' (by rw [hkn', hmn, hmd]; exact zwR_row p) rfl]
    show (afterNative e _ _ ((zwR.resume 1 #[] (.returned (some (.double z)))).run e s₂)).1 = _
    rw [hr3]
    exact doReturn_native (f := { method := m, args := #[.double x], stage := 1, saved := #[], awaiting := false, answer := some (.returned (some (.double z))), words := 0 }) hend rfl hfs2
  have e2 := hsame.1
  have hcs : s₂.curStatus? = some .runnable := by
    have h1 : s₂.curStatus? = ({ s₂ with vm := (s.setFrames (.invoking mS #[.double x] :: .native { method := m, args := #[.double x], stage := 1, saved := #[], awaiting := true, answer := none, words := 0 } :: below)).vm } : State).curStatus? := rfl
    rw [h1, e2]
    show ((s.setFrames (.invoking mS #[.double x] :: .native { method := m, args := #[.double x], stage := 1, saved := #[], awaiting := true, answer := none, words := 0 } :: below)).setFrames _).curStatus? = _
    simpa using hable
  have hal2 : s₂.alone = true := by
    have h1 : s₂.alone = ({ s₂ with vm := (s.setFrames (.invoking mS #[.double x] :: .native { method := m, args := #[.double x], stage := 1, saved := #[], awaiting := true, answer := none, words := 0 } :: below)).vm } : State).alone := rfl
    rw [h1, e2]
    show ((s.setFrames (.invoking mS #[.double x] :: .native { method := m, args := #[.double x], stage := 1, saved := #[], awaiting := true, answer := none, words := 0 } :: below)).setFrames _).alone = _
    simpa using halone
  have hcur2 : s₂.cur < s₂.threads.size := State.cur_lt_of_frames hend
  have hendF : Ended (s₂.setFrames fs) below (.returned (some (.double z))) := ended_of_handOver hfs2 hcur2 (by
    rcases below with _ | ⟨y9, r⟩
    · simp only [State.hears, hmeth, Option.any_some, hret] at hhears
      cases hhears
    · cases y9
      case java g => exact Or.inr ⟨_, _, rfl, trivial⟩
      case native g => exact Or.inr ⟨_, _, rfl, trivial⟩
      case proc g => exact Or.inr ⟨_, _, rfl, trivial⟩
      all_goals
        simp only [State.hears, hmeth, Option.any_some, hret] at hhears
        cases hhears)
  have hS3 : Steps p.tables e below s₂ (s₂.setFrames fs) := Steps.head ⟨hrun2, hcs, hal2⟩ ⟨[.native { method := m, args := #[.double x], stage := 1, saved := #[], awaiting := false, answer := some (.returned (some (.double z))), words := 0 }], hend, by simp, by simp⟩ (hstep4 ▸ Steps.refl _)
  have hS2 : Steps p.tables e below (s.setFrames (.java (entryFrame m #[.double x] 2) :: below)) (s₂.setFrames fs) :=
    Steps.head ⟨hrun, by simpa using hable, by simpa using halone⟩ ⟨[.java (entryFrame m #[.double x] 2)], by rw [hf1]; rfl, by simp, by simp⟩ (hstep2 ▸ hsteps.trans hS3)
  obtain ⟨n, hn, hwn⟩ := Steps.head (tb := p.tables) (e := e) ⟨hrun, hable, halone⟩ ⟨[.invoking m #[.double x]], hf, by simp, by simp⟩ (hstep ▸ hS2)
  obtain ⟨t, ht, -⟩ := State.frames_cons hf
  have hsm : s.sameButNew (({ s₂ with vm := s.vm } : State).setFrames fs) ([] ++ L) (0 + rmS.cells) (0 + rmS.slots) := (((State.sameButNew.refl s ht).setFrames _ hcur).trans hsame).setFrames fs hcur
  have hrunF : (s₂.setFrames fs).status = .running := hrun2
  refine ⟨n, .returned (some (.double z)), hwn, hn ▸ hrunF, hn ▸ hendF, ?_⟩
  rw [hn]
  refine ⟨⟨some (.double z), rfl, ⟨z, rfl, rfl⟩, by show zF M0 H s₂.heap; exact hF⟩, [] ++ L, ⟨⟨_, rfl⟩, hW₂, ?_⟩, fun q hq => hL q (by simpa using hq)⟩
  exact hsm.mono (by have := hR.2.2.1; omega) (by have := hR.2.2.2; omega)
