/-! CALLEES OF A CLASS THAT THE START DOESN'T SAY TO BE INITIALISED: the bodies of an enum's constants. The contract is said of every invocation, whatever the class's state -/
set_option maxRecDepth 100000
/-- from Pc at its invocation, y returns; whether its class is initialised is not asked -/
def zU (l : Launch) (y : MethodName) (ws : List Cond) (rm : Room) (Pc : Array Value → State → Prop) (Qc : Array Value → State → Outcome → State → Prop) (mc ms : Nat) (free : Nat → Prop) : Prop :=
  ∀ (p : Program) (e : Env), l.admits e → FairCas e.choices → FairClock e.choices → ∀ (s : State) (m : MethodId) (args : Array Value) (below : List Frame), s.frames = .invoking m args :: below →
    (s.status = .running ∧ s.curStatus? = some .runnable ∧ s.alone = true) → s.methodNamed? y = some m → s.hears m below = true → s.hasRoom e.platform rm = true → (∀ w ∈ ws, w.before args s = true) → Pc args s →
    ∃ (n : Nat) (o : Outcome), (∀ k, k < n → Within (stepsAlone p.tables e k s) below) ∧ (stepsAlone p.tables e n s).status = .running ∧ Ended (stepsAlone p.tables e n s) below o ∧ Qc args s o (stepsAlone p.tables e n s) ∧ ∃ L, FrameEnd s o (stepsAlone p.tables e n s) L mc ms ∧ ∀ q ∈ L, free q.base
abbrev zMU (l : Launch) (s0 : State) (y : MethodName) (cc : ByteArray) (maxL : Nat) (ret : Option FieldType) (rm : Room) (av : List Value) (H : Heap) (M : Nat → Prop) (P : Option Value → Heap → Prop) : Prop :=
  zU l y (ws_ y cc maxL ret) rm (zP s0 av H) (zQ H M P) rm.cells rm.slots (zA M H)
theorem z_metU {l : Launch} {s0 : State} {G : zG} {y : MethodName} {cc : ByteArray} {maxL : Nat} {ret : Option FieldType} {rm : Room} {av : List Value} {H : Heap} {M : Nat → Prop} {P : Option Value → Heap → Prop} (hE : zE l s0 G) (hy : plainFor y = true) (hsl : (lg_sl av).length ≤ maxL)
    (body : ∀ (p : Program) (e : Env) (s : State) (m : MethodId) (args : Array Value) (below : List Frame) (meth : Method) (c : Code) (Q : State → Prop) (ls : Array Slot), zC p l s0 G s m args c y.cls cc → c.maxLocals = maxL → meth.sig.returnType = ret → meth.locks = false → meth.name = y.name → s.heap = H → (∀ t, MQ below (zQ H M P) args s rm.cells rm.slots (zA M H) t → Q t) → va_S (zA M H) H H [] → lv_has ls maxL (lv_args 0 av) → W p l e rm s m args below meth c H [] 0 0 Q (F0 m 0 ls [])) : zMU l s0 y cc maxL ret rm av H M P := by
  intro p e ha hc hk s m args below hf hgo hname hhears hroom hws hv
  obtain ⟨rfl, hH, hW⟩ := hv
  obtain ⟨meth, c, hmeth, hcode, hbytes, hlocals, hret, hlocks, -⟩ := Cond.code_spec hname (hws (Cond.code y cc maxL ret) List.mem_cons_self)
  have hcur := State.cur_lt_of_frames hf
  have hf1 := State.frames_setFrames (s := s) (.java (entryFrame m av.toArray maxL) :: below) hcur
  have ht1 := State.topJava?_of_frames hf1
  have hAt : At (s.setFrames (.java (entryFrame m av.toArray maxL) :: below)) m c below :=
    ⟨by rw [ht1]; rfl, ⟨[], by rw [hf1]; rfl⟩, hgo.1, by simpa using hgo.2.1, by simpa using hgo.2.2, by rw [State.code?_eq]; simp [State.setFrames, hmeth, hcode], State.plainMethod.of_named (s := s) hy hname hmeth⟩
  have hfull : e.platform.stackFull (s.setFrames below).me (s.setFrames below).frames c.maxLocals = false := by
    obtain ⟨-, h1, -, h2⟩ := State.hasRoom_stack hroom
    rw [hf, List.length_cons] at h1
    rw [State.localsInUse_invoking hf hmeth hcode] at h2
    have hw := stackUse_le_stackWeight below
    rw [State.frames_setFrames _ hcur]
    exact Platform.stackFull_eq_false (by rw [State.stackLimits_setFrames]; omega) (by rw [State.stackLimits_setFrames]; omega)
  have hstep : (stepThread p.tables e s).1 = (s.setFrames (.java (entryFrame m av.toArray maxL) :: below)).setTop (entryFrame m av.toArray maxL) := by
    rw [stepThread_invoking hf, (doInvoke_java (s := s.setFrames below) (e := e) (meth := meth) (code := c) hmeth hcode hlocks hfull).1, State.setTop_self ht1]
    simp only [State.pushFrame, State.frames_setFrames _ hcur, State.setFrames_setFrames, hlocals, entryFrame]
  obtain ⟨t, ht, -⟩ := State.frames_cons hf
  have X : Stand p l e rm s m av.toArray below meth c (s.setFrames (.java (entryFrame m av.toArray maxL) :: below)) [] 0 0 :=
    ⟨ha, hc, hk, hf, hroom, hhears, hmeth, hcode, hAt, by rw [hf1]; rfl, State.WarmedH.refl s, by rw [State.stackLimits_setFrames], by rw [State.stackBytes_setFrames], (State.sameButNew.refl s ht).setFrames _ hcur⟩
  have hl := lv_entry av (n := maxL) hsl
  have hts := hws
  have hB : W p l e rm s m av.toArray below meth c s.heap [] 0 0 (MQ below (zQ H M P) av.toArray s rm.cells rm.slots (zA M H)) (entryFrame m av.toArray maxL) := by
    rw [lg_entry_eq, hH]
    exact body p e s m av.toArray below meth c _ _ ⟨by cases p <;> rfl, hbytes, findClass_of_methodNamed hname, fun w h => hts w (List.mem_cons_of_mem _ h), hE.k hW, hW, hE⟩ hlocals hret hlocks (name_of_methodNamed hname hmeth).1 hH (fun t h => h) va_S.rf hl
  obtain ⟨s₂, a1, o, b1, b2, b3⟩ := hB (s.setFrames (.java (entryFrame m av.toArray maxL) :: below)) rfl X
  obtain ⟨n, hn, hw⟩ := Steps.head (tb := p.tables) (e := e) hgo ⟨[.invoking m av.toArray], hf, by simp, by simp⟩ (hstep ▸ a1)
  exact ⟨n, o, hw, hn ▸ b1, hn ▸ b2, hn ▸ b3.1, hn ▸ b3.2⟩
theorem zU.back {l : Launch} {R : Room} {p : Program} {e : Env} {below : List Frame} {s : State} {sargs : Array Value} {y : MethodName} {len W : Nat} {ws : List Cond} {rm : Room} {Pc : Array Value → State → Prop} {Qc : Array Value → State → Outcome → State → Prop} {mc ms : Nat} {free : Nat → Prop} {bytes : ByteArray} {maxL : Nat} {ret : Option FieldType}
    (hM : zU l y ws rm Pc Qc mc ms free) (hblind : FrameBlind Pc) (hrc : rm.cells = mc) (hrs : rm.slots = ms) (hframes : rm.frames + 1 ≤ R.frames) (hlocals : W + (maxL + 11) + rm.locals ≤ R.locals)
    (hws : ∀ w ∈ ws, ∀ a' U, s.WarmedH U.vm → w.before a' U = true) (hcode : Cond.code y bytes maxL ret ∈ ws) : Back l R p e below s sargs y len W (PreOf R mc ms Pc) (PostOf Qc mc ms free) := by
  intro m meth c A g ig mk a X hg hsize hdg hW hn hp
  obtain ⟨U, Ls, c0, s0⟩ := A
  obtain ⟨h4, h5, hPc⟩ := hp
  dsimp only [Pt.U, Pt.locs, Pt.cells, Pt.slots] at h4 h5 hPc X hn ⊢
  obtain ⟨methY, cY, hmY, hcY, -, hlY, -, -, -, -⟩ := Cond.code_spec hn (hws _ hcode a U X.warmed)
  have h : At U g.method c below := by rw [hg]; exact X.here
  have hroom := X.room_calling (g := g) (R' := rm) (args' := a) hsize hmY hcY hframes (by rw [hlY]; omega) (by rw [hrc]; exact h4) (by rw [hrs]; exact h5)
  have hcd : (U.calling g mk a).code? g.method = some c := by
    have := h.code
    rw [State.code?_eq] at this ⊢
    simpa [State.calling, State.pushFrame, State.setFrames] using this
  have hgo : (U.calling g mk a).status = .running ∧ (U.calling g mk a).curStatus? = some .runnable ∧ (U.calling g mk a).alone = true := ⟨h.running, by simpa [State.calling] using h.runnable, by simpa [State.calling] using h.alone⟩
  have hfc := State.frames_calling h.top g mk a
  obtain ⟨n, o, hw, hr, he, hq, L, hfe, hL⟩ := hM p e X.admits X.cas X.clock (U.calling g mk a) mk a _ hfc hgo hn (by simp [State.hears, hcd, hdg, Except.toOption]) hroom (fun w hw => hws w hw a _ X.warmed) (hblind _ _ _ _ hPc)
  obtain ⟨mid, hmid⟩ := h.above
  have hf0 := State.frames_setTop' g h.top
  have hstep : (stepThread p.tables e (U.calling g mk a)).1 = (doInvoke e (U.setTop g) [] mk a).1 := by
    obtain ⟨t, ht, -⟩ := State.frames_cons hf0
    rw [stepThread_invoking hfc, State.calling, State.pushFrame, State.setFrames_setFrames, ← hf0, State.setFrames_self ht]
  have hrun : Steps p.tables e below (doInvoke e (U.setTop g) [] mk a).1 (stepsAlone p.tables e n (U.calling g mk a)) := by
    cases n with
    | zero => exact absurd ⟨[.invoking mk a], hfc, by simp, by simp⟩ he.not_within
    | succ k =>
      refine ⟨k, ?_, fun j hj => ?_⟩
      · rw [stepsAlone_succ _ hgo, hstep]
      · have := hw (j + 1) (by omega)
        rw [stepsAlone_succ _ hgo, hstep, hmid] at this
        exact (show Within _ ((.java g :: mid) ++ below) from this).weaken
  revert hr he hq hfe hrun
  generalize stepsAlone p.tables e n (U.calling g mk a) = s₂
  intro hr hend hq hfe hrun
  obtain ⟨⟨v, rfl⟩, hW₂, e2, q2, q3, q4, q5, q6⟩ := id hfe
  have e3 : s₂ = ({ (U.calling g mk a).setFrames s₂.frames with heap := s₂.heap, slotsUsed := s₂.slotsUsed } : State).setVm s₂.vm := by
    have : s₂ = ({ s₂ with vm := (U.calling g mk a).vm } : State).setVm s₂.vm := rfl
    rw [e2] at this
    exact this
  obtain ⟨c₂, i₂, len₂, hc₂, hd₂, hf₂⟩ := hend
  have hW' : U.WarmedH s₂.vm := hW₂
  have hcc : c₂ = c := Option.some.inj (hc₂.symm.trans ((by rw [State.code?_eq, State.code?_eq, hW'.alike.method?] : s₂.code? g.method = U.code? g.method).trans h.code))
  subst hcc
  have hlen : len₂ = len := by rw [hdg] at hd₂; cases hd₂; rfl
  subst hlen
  obtain ⟨g₀, hg0⟩ := Option.isSome_iff_exists.mp h.top
  obtain ⟨r, hr'⟩ := State.topJava?_eq_some.mp hg0
  have hs₂ : s₂ = (({ U with heap := s₂.heap, slotsUsed := s₂.slotsUsed } : State).setVm s₂.vm).setTop { g with pc := g.pc + len₂, stack := v.toList ++ g.stack } := by
    have hr2 : (({ U with heap := s₂.heap, slotsUsed := s₂.slotsUsed } : State).setVm s₂.vm).frames = .java g₀ :: r := hr'
    refine e3.trans ?_
    rw [hf₂, State.calling_eq h.top, State.setFrames_setFrames, State.setTop_of_frames _ hr2, hr']
    rfl
  have hsame : U.sameButNew ({ U with heap := s₂.heap, slotsUsed := s₂.slotsUsed } : State) L mc ms := by
    refine ⟨?_, q2, q3, q4, q5, q6⟩
    obtain ⟨t, ht, -⟩ := State.frames_cons hr'
    show ({ U with heap := s₂.heap, slotsUsed := s₂.slotsUsed } : State) = { U.setFrames U.frames with heap := s₂.heap, slotsUsed := s₂.slotsUsed }
    rw [State.setFrames_self ht]
  subst hg
  refine ⟨v, ⟨(({ U with heap := s₂.heap, slotsUsed := s₂.slotsUsed } : State).setVm s₂.vm), Ls ++ L, c0 + mc, s0 + ms⟩,
    ⟨X.admits, X.cas, X.clock, X.frames, X.room, X.hears, X.method, X.code, (X.here.setHeapUsed s₂.heap s₂.slotsUsed).setVm hW'.alike, X.tail, State.WarmedH.trans X.warmed hW', X.limits, X.bytes, X.same.trans (hsame.setVm s.vm)⟩,
    ⟨g, mk, s₂, L, rfl, rfl, hq, rfl, hL, rfl, rfl⟩, ?_⟩
  show Steps p.tables e below _ ((({ U with heap := s₂.heap, slotsUsed := s₂.slotsUsed } : State).setVm s₂.vm).setTop { g with pc := g.pc + len₂, stack := v.toList ++ g.stack })
  rw [← hs₂]
  exact hrun
section KU
variable {p : Program} {l : Launch} {e : Env} {R : Room} {s : State} {m : MethodId} {args : Array Value} {below : List Frame} {meth : Method} {c : Code} {H : Heap} {locs : List Loc} {cells slots : Nat}
variable {cc : ByteArray} {pc : Nat} {ls : Array Slot} {rest : List Value} {s0 : State} {G : zG} {own owner C : String}
variable {x y : MethodName} {bytes : ByteArray} {maxL nL index n b : Nat} {ret : Option FieldType} {rm : Room} {As st : List Value} {M1 : Nat → Prop} {P1 : Option Value → Heap → Prop}
theorem z_runAU (h : zC p l s0 G s m args c own cc) (hml : c.maxLocals = nL) (hls : ls.size = nL) (hM : zMU l s0 y bytes maxL ret rm (.ref b :: As) H M1 P1) (hq : Cond.code y bytes maxL ret ∈ lw_all) (hl : Cond.methodLink own index x ∈ lw_all) (hsm : Cond.sameMethod x.cls owner x.name x.desc ∈ lw_all) (hs : Cond.selects C x y ∈ lw_all) (hi : Cond.instanceMethod y ∈ lw_all) (hdc : Cond.declares ⟨owner, x.name, x.desc⟩ ∈ lw_tbl) (hd : owner ≠ "java/lang/invoke/MethodHandle" ∧ owner ≠ "java/lang/invoke/VarHandle" ∧ (parseMethodDescriptor x.desc).map (fun d => d.parameters.length) = some n) (hn : As.length = n) (hv : zRv s H b C) (hst : st = As.reverse ++ .ref b :: rest) (hw : (rest.map fun v => v.category).sum ≤ 8) (hR : rm.frames + 1 ≤ R.frames ∧ 8 + (maxL + 11) + rm.locals ≤ R.locals) (hf : cells + rm.cells ≤ R.cells ∧ slots + rm.slots ≤ R.slots) (d : decode cc pc = .ok (.invokevirtual index, 3)) :
    va_Run p l e R s m args below meth c H locs cells slots rm.cells rm.slots (F0 m pc ls st) rest (zQ H M1 P1 (Value.ref b :: As).toArray) (zA M1 H) := by
  have hK : Back l R p e below s args y 3 8 (PreOf R rm.cells rm.slots (zP s0 (.ref b :: As) H)) (PostOf (zQ H M1 P1) rm.cells rm.slots (zA M1 H)) := hM.back (bytes := bytes) (maxL := maxL) (ret := ret) zP_blind rfl rfl hR.1 hR.2 (pay_in h.t (lw_meth hq)) List.mem_cons_self
  obtain ⟨cellB, hcB, hoB, hclB⟩ := hv
  intro T hT X
  obtain ⟨v, vm₁, ⟨U', l2, c2, s2⟩, hW₁, X', ⟨g', mk, t, L, e1, e2, hqq, h1, hL, h2, h3⟩, st'⟩ := va_callVU X h.x (C := C) (owner := owner) (bytes := bytes) (maxL := maxL) (ret := ret) h.o (h.t _ hl) (h.t _ hsm) (va_Decl.abs (z_nd h hdc)) ⟨hd.1, hd.2.1⟩ (h.t _ hs) (h.t _ hi) (h.t _ hq) hK (by rw [hT]; exact hcB) hoB hclB (g := F0 m pc ls st) rfl (hls.trans hml.symm) (argsL := As) (rest := rest) (fun sig hsig => by
    have h2 := hd.2.2
    rw [hsig] at h2
    exact hn.trans (Option.some.inj h2).symm) hst (lv_room hw) (by rw [h.b]; exact d) (fun vm₁ hW₁ => ⟨hf.1, hf.2, z_pre h (T.setVm vm₁) hT hW₁⟩)
  dsimp only [Pt.U, Pt.locs, Pt.cells, Pt.slots] at X' e1 e2 h1 h2 h3 st'
  subst h1; subst h2; subst h3
  exact ⟨v, (T.setVm vm₁).calling g' mk (Value.ref b :: As).toArray, t, U', L, hT, X', hL, e1, e2, hqq, st'⟩
theorem z_runVU (h : zC p l s0 G s m args c own cc) (hml : c.maxLocals = nL) (hls : ls.size = nL) (hM : zMU l s0 y bytes maxL ret rm (.ref b :: As) H M1 P1) (hq : Cond.code y bytes maxL ret ∈ lw_all) (hl : Cond.methodLink own index y ∈ lw_all) (hs : Cond.selects C y y ∈ lw_all) (hi : Cond.instanceMethod y ∈ lw_all) (hd : zD y n) (hn : As.length = n) (hv : zRv s H b C) (hst : st = As.reverse ++ .ref b :: rest) (hw : (rest.map fun v => v.category).sum ≤ 8) (hR : rm.frames + 1 ≤ R.frames ∧ 8 + (maxL + 11) + rm.locals ≤ R.locals) (hf : cells + rm.cells ≤ R.cells ∧ slots + rm.slots ≤ R.slots) (d : decode cc pc = .ok (.invokevirtual index, 3)) :
    va_Run p l e R s m args below meth c H locs cells slots rm.cells rm.slots (F0 m pc ls st) rest (zQ H M1 P1 (Value.ref b :: As).toArray) (zA M1 H) := by
  have hK : Back l R p e below s args y 3 8 (PreOf R rm.cells rm.slots (zP s0 (.ref b :: As) H)) (PostOf (zQ H M1 P1) rm.cells rm.slots (zA M1 H)) := hM.back (bytes := bytes) (maxL := maxL) (ret := ret) zP_blind rfl rfl hR.1 hR.2 (pay_in h.t (lw_meth hq)) List.mem_cons_self
  obtain ⟨cellB, hcB, hoB, hclB⟩ := hv
  intro T hT X
  obtain ⟨v, vm₁, ⟨U', l2, c2, s2⟩, hW₁, X', ⟨g', mk, t, L, e1, e2, hqq, h1, hL, h2, h3⟩, st'⟩ := callV X h.x (C := C) (bytes := bytes) (maxL := maxL) (ret := ret) h.o (h.t _ hl) (h.t _ hi) (h.t _ hs) (h.t _ hq) ⟨hd.1, hd.2.1⟩ hK (by rw [hT]; exact hcB) hoB hclB (g := F0 m pc ls st) rfl (hls.trans hml.symm) (argsL := As) (rest := rest) (fun sig hsig => by
    have h2 := hd.2.2
    rw [hsig] at h2
    exact hn.trans (Option.some.inj h2).symm) hst (lv_room hw) (by rw [h.b]; exact d) (fun vm₁ hW₁ => ⟨hf.1, hf.2, z_pre h (T.setVm vm₁) hT hW₁⟩)
  dsimp only [Pt.U, Pt.locs, Pt.cells, Pt.slots] at X' e1 e2 h1 h2 h3 st'
  subst h1; subst h2; subst h3
  exact ⟨v, (T.setVm vm₁).calling g' mk (Value.ref b :: As).toArray, t, U', L, hT, X', hL, e1, e2, hqq, st'⟩
end KU
