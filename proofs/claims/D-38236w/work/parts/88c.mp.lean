/-! ROWS: notify without the monitor throws (launches without stack traces); the setup of the first row follows vx_vmAt of the kit's EXCEPTIONS -/
set_option maxRecDepth 100000
section NTX
set_option maxHeartbeats 1000000 in
/-- a native's throw with a message, no traces kept: from the machine's note over the native's frame to 'throwing' over the same frames -/
theorem zx_natAt {p : Program} {l : Launch} {e : Env} {R : Room} {s : State} {m₀ : MethodId} {args : Array Value} {below : List Frame} {meth : Method} {c : Code} {W : State} {locs : List Loc} {cells slots : Nat}
    (X : Stand p l e R s m₀ args below meth c W locs cells slots) (hexec : p.tables.exec = Jvm.exec) (htr : e.platform.stackTraces = false) {cls : String} {names : List String} {text : String}
    (hcls : Bundle.fit cls = true) (hnames : ∀ n ∈ names, Bundle.fit n = true) (hsoe : (cls == "java/lang/StackOverflowError") = false) (hoom : (cls == "java/lang/OutOfMemoryError") = false)
    (h : ∀ a ∈ Bundle.messageArmAtoms cls names, a.before args s = true)
    (hlocs : ∀ x ∈ locs, ∀ cell, s.heap[x.base]? = some cell → cell.vm.isStatics = false)
    (htext : (text == notModelled) = false) (hlimit : ¬ (stringBytes (stringToUtf16 text)).size > e.platform.arrayLengthLimit) (hheap : ¬ (stringBytes (stringToUtf16 text)).size * componentBytes .byte > e.platform.maxHeapBytes)
    {g : JFrame} (hsize : g.locals.size = c.maxLocals) {nf : NFrame} (hnf : nf.words = 0)
    (hRframes : names.length + 5 < R.frames) (hRlocals : 2 * g.monitorRoom + (g.stack.map fun v => v.category).sum + 10240 ≤ R.locals) (hshort : 13 * names.length + 55 ≤ 10240)
    (hRcells : cells + 3 ≤ R.cells) (hRslots : slots + ((stringBytes (stringToUtf16 text)).size + 4 + 6) ≤ R.slots) :
    ∃ (U : State) (q : Addr) (ce : Cell), Stand p l e R s m₀ args below meth c U locs (cells + 3) (slots + ((stringBytes (stringToUtf16 text)).size + 4 + 6)) ∧
      Steps p.tables e below (W.setFrames (.throwNew cls (some text) none :: .native nf :: .java g :: below)) (U.setFrames (.throwing q :: .native nf :: .java g :: below)) ∧ (∀ a0, a0 < W.heap.size → U.heap[a0]? = W.heap[a0]?) ∧ W.heap.size ≤ U.heap.size ∧ U.heap[q]? = some ce ∧ s.vm.findClass cls = some ce.cls ∧ ce.vm = .none := by
  have howns : e.platform.frameOwnsMonitors = true := by rw [X.admits.platform]
  have hfin : e.platform.finalization = false := by rw [X.admits.platform]
  have hpl : e.platform.magicAccessors = ({} : Platform).magicAccessors := by rw [X.admits.platform]
  have a : ∀ x, x ∈ Bundle.messageArmAtoms cls names → x.holds args s none s [] = true := fun x hx => h x hx
  obtain ⟨T, Z0, L, -, Y⟩ := ThrowableC.of_atoms (args := args) howns hfin hpl (fun x hx => h x (by simp [Bundle.messageArmAtoms, hx]))
  obtain ⟨Z, M, LZ, LM, hnZ⟩ := Init0T.ofS_atoms (args := args) hpl L Y (fun x hx => h x (by simp [Bundle.messageArmAtoms, hx]))
  obtain ⟨P1, Ps, hlen, L1, hL, hP1m, hlink1, hlink⟩ := Bundle.chainS (args := args) hpl hnZ names cls hcls hnames (fun x hx => h x (by simp [Bundle.messageArmAtoms, hx]))
  obtain ⟨Zs, LZs, hn4, hfitv, hfitc⟩ := StringT.of_atoms (args := args) (fun x hx => h x (by simp [Bundle.messageArmAtoms, hx]))
  have hfound : s.vm.findClass cls = some P1.m.cls := findClass_of_methodNamed hP1m
  obtain ⟨c1, kX, hc1, hk, hord, -, -, hn6⟩ := Cond.instantiable_spec (a (.instantiable cls 6) (by simp [Bundle.messageArmAtoms]))
  cases Option.some.inj (hc1.symm.trans hfound)
  have hinit := Cond.initialized_spec hfound hk (a (.initialized cls) (by simp [Bundle.messageArmAtoms]))
  have hctor : kX.findMethod "<init>" "(Ljava/lang/String;)V" = some P1.m.idx := findMethod_of_methodNamed hP1m hk
  have hsel0 : selectMethod e.platform s.vm P1.m.cls T.fill0 = .method T.fill0 := by
    obtain ⟨c2, r2, m2, q1, q2, q3, q4, -⟩ := Cond.selects_spec (a (.selects cls Bundle.tFill0 Bundle.tFill0) (by simp [Bundle.messageArmAtoms]))
    cases Option.some.inj (q1.symm.trans hfound)
    cases Option.some.inj (q2.symm.trans (State.methodFound?_of_named Y.fill0 (by decide)))
    cases Option.some.inj (q3.symm.trans Y.fill0)
    rw [Launch.admits_selectMethod X.admits]; exact q4
  have hselF : selectMethod e.platform s.vm P1.m.cls T.fill = .method T.fill := by
    obtain ⟨c2, r2, m2, q1, q2, q3, q4, -⟩ := Cond.selects_spec (a (.selects cls Bundle.tFill Bundle.tFill) (by simp [Bundle.messageArmAtoms]))
    cases Option.some.inj (q1.symm.trans hfound)
    cases Option.some.inj (q2.symm.trans (State.methodFound?_of_named Y.fill (by decide)))
    cases Option.some.inj (q3.symm.trans Y.fill)
    rw [Launch.admits_selectMethod X.admits]; exact q4
  obtain ⟨cellS0, hcS0, hiss⟩ := Y.statics
  obtain ⟨u0, hu0⟩ := Cond.staticRefV Y.unassigned L.unassignedStatic L.statics hcS0 hiss (a (.isRef (.static Bundle.tN "UNASSIGNED_STACK" Bundle.steD)) (by simp [Bundle.messageArmAtoms]))
  obtain ⟨sen, hsen⟩ := Cond.staticRefV Y.sentinel L.sentinelStatic L.statics hcS0 hiss (a (.isRef (.static Bundle.tN "SUPPRESSED_SENTINEL" Bundle.listD)) (by simp [Bundle.messageArmAtoms]))
  obtain ⟨ci198, i198, fB, hk198, hg198, ha198, hsB, -, hnB, htB, hffB⟩ := Cond.ownField (t := .object "java/lang/Object") Y.found L.cls (by decide +kernel) (a (.fieldLink Bundle.tN 198 Bundle.tN "backtrace" "Ljava/lang/Object;") (by simp [Bundle.messageArmAtoms])) (a (.lays Bundle.tN Bundle.tN "backtrace" "Ljava/lang/Object;") (by simp [Bundle.messageArmAtoms])) e.platform hpl
  obtain ⟨cellS, hcS', heS, -, hkeep⟩ := X.same.2.2.2.2.2 T.aS cellS0 hcS0
  have hcellS : W.heap[T.aS]? = some cellS := hcS'
  have hout' : ∀ i, (⟨T.aS, i⟩ : Loc) ∉ locs := fun i hmem => by
    have := hlocs _ hmem cellS0 hcS0
    rw [hiss] at this; cases this
  have hknownS : cellS.vm ≠ .unknown := by
    rw [heS]; intro hu
    rw [show cellS0.vm = .unknown from hu] at hiss
    cases hiss
  have hvU : cellS.slots[T.fUnassigned.slot]? = some u0.v := by rw [hkeep _ (hout' _)]; exact hu0
  have hvSen : cellS.slots[T.fSentinel.slot]? = some sen.v := by rw [hkeep _ (hout' _)]; exact hsen
  obtain ⟨iM, hffM⟩ := Y.msg
  obtain ⟨tyC, dC, hdC, hdnC⟩ := Cond.laysAt hfound hk Y.cause (a (.lays cls Bundle.tN "cause" "Ljava/lang/Throwable;") (by simp [Bundle.messageArmAtoms]))
  obtain ⟨tyS, dS, hdS, hdnS⟩ := Cond.laysAt hfound hk Y.stack (a (.lays cls Bundle.tN "stackTrace" Bundle.steD) (by simp [Bundle.messageArmAtoms]))
  obtain ⟨tyP, dP, hdP, hdnP⟩ := Cond.laysAt hfound hk Y.supp (a (.lays cls Bundle.tN "suppressedExceptions" Bundle.listD) (by simp [Bundle.messageArmAtoms]))
  obtain ⟨tyM, dM, hdM, hdnM⟩ := Cond.laysAt hfound hk hffM (a (.lays cls Bundle.tN "detailMessage" "Ljava/lang/String;") (by simp [Bundle.messageArmAtoms]))
  obtain ⟨tyB, dB, hdB, hdnB⟩ := Cond.laysAt hfound hk hffB (a (.lays cls Bundle.tN "backtrace" "Ljava/lang/Object;") (by simp [Bundle.messageArmAtoms]))
  have bC := Cond.laysApart hdB hdC hdnB hdnC (by rw [hnB, Y.causeName]; decide)
  have bS := Cond.laysApart hdB hdS hdnB hdnS (by rw [hnB, Y.stackName]; decide)
  have bP := Cond.laysApart hdB hdP hdnB hdnP (by rw [hnB, Y.suppName]; decide)
  have hbk : ((preparedCellV T.toThrowableT (freshCell P1.m.cls kX) (W.heap.size + 2) u0 sen).withEntry W.cur).slots[fB.slot]? = some .null := by
    have := fresh_default (c := P1.m.cls) tyB
    rw [htB] at this
    simpa [preparedCellV, Cell.setSlot, Cell.withEntry, Array.getElem?_setIfInBounds, bC, bS, bP, bC.symm, bS.symm, bP.symm, defaultValue] using this
  have tkC := Takes.of_laid (v := .ref (W.heap.size + 2)) hk hord tyC (by rw [Y.causeType]; rfl)
  have tkS := Takes.of_laid (v := u0.v) hk hord tyS (by rw [Y.stackType]; exact fits_refV_array _ u0)
  have tkP := Takes.of_laid (v := sen.v) hk hord tyP (by rw [Y.suppType]; exact fits_refV_object _ sen)
  have tkM := Takes.of_laid (v := .ref (W.heap.size + 1)) hk hord tyM (by rw [Y.msgType]; rfl)
  have hskip : SkipFacts T e.platform s (fun u => u) u0 ((preparedCellV T.toThrowableT (freshCell P1.m.cls kX) (W.heap.size + 2) u0 sen).withEntry W.cur) := ⟨{ ci198 := ci198, i198 := i198, fBack := fB }, ⟨hk198, hg198, ha198, hsB⟩, hbk, fun _ _ => rfl⟩
  obtain ⟨vm', X5, h1, hkept⟩ := X.nativeThrowsMessageColdBareV hexec (g := g) hsize hnf T L Z LZ M LM Zs LZs P1 L1 Ps hL hlink1 hlink hsoe hoom hfound hk hinit hord hctor htext hlimit hheap
    (hfitv _) (hfitc _) hsel0 hselF hcellS hknownS hvU hvSen tkC tkS tkP tkM Y.objLocals hskip (fun _ _ hA hW _ hroom _ hrest => L.nativeOff p htr hA hW hroom hrest)
    (by rw [hlen]; exact hRframes) hRlocals (by rw [hlen]; exact hshort) hRcells (by rw [hn4, hn6]; omega)
  have b1 : (bytesOf Zs.cB (stringToUtf16 text)).slots.size = (stringBytes (stringToUtf16 text)).size := by
    rw [(Cell.writeAll_facts _ _).2.2]; simp [bytes0]
  have b2 : (stringAt Zs.cS Zs.kS Zs.fv Zs.fc (stringToUtf16 text) W.heap.size).slots.size = 4 := by simp [string0, Cell.setSlot, hn4]
  have b3 : (freshCell P1.m.cls kX).slots.size = 6 := by simp [hn6]
  have hwsz := (withThrown_facts e.platform W Zs text P1.m.cls kX).2.2.1
  have hlt : W.heap.size + 2 < ((withThrown W Zs text P1.m.cls kX).setVm vm').heap.size := by
    show W.heap.size + 2 < (withThrown W Zs text P1.m.cls kX).heap.size
    rw [hwsz]; omega
  have hge : s.heap.size ≤ W.heap.size := X.same.2.1
  rw [b1, b2, b3] at X5
  have e9 : slots + (stringBytes (stringToUtf16 text)).size + 4 + 6 = slots + ((stringBytes (stringToUtf16 text)).size + 4 + 6) := by omega
  rw [e9] at X5
  have X6 := X5.forget (fun y hy => by
    simp only [List.mem_cons, List.not_mem_nil, or_false] at hy
    rcases hy with rfl | rfl | rfl | rfl | rfl <;> exact Nat.le_trans hge (Nat.le_add_right _ 2))
  refine ⟨_, W.heap.size + 2, _, X6, h1, hkept, ?_, heapAt_setCell_self _ hlt, hfound, rfl⟩
  have h9 : ((withThrown W Zs text P1.m.cls kX).setVm vm').heap.size = (withThrown W Zs text P1.m.cls kX).heap.size := rfl
  simp only [State.setCell, Array.size_setIfInBounds]
  rw [h9, hwsz]; omega
end NTX
section NTW
variable {p : Program} {l : Launch} {e : Env} {R : Room} {s : State} {m : MethodId} {args : Array Value} {below : List Frame} {meth : Method} {c : Code} {H : Heap} {locs : List Loc} {cells slots : Nat} {Q : State → Prop}
variable {cc : ByteArray} {pc : Nat} {ls : Array Slot} {rest : List Value} {s0 : State} {G : zG} {own : String} {A : Nat → Prop} {H0 : Heap} {M : Nat → Prop} {nL : Nat}
def imN : List String := ["java/lang/RuntimeException", "java/lang/Exception"]
abbrev imE : String := "java/lang/IllegalMonitorStateException"
theorem at_M : ∀ w ∈ vx_atM imE imN, w ∈ lw_tbl := by decide +kernel
theorem ok_M : (vx_atM imE imN).all okW = true ∧ (vx_atM imE imN).all vx_ot = true := by decide +kernel
/-- notify on an object whose monitor is free: IllegalMonitorStateException -/
theorem fx_notX (h : zC p l s0 G s m args c own cc) (hH : s.heap = H0) (hO : zO s0 H0) (hMo : ∀ z, M z → s0.heap.size ≤ z) (hml : c.maxLocals = nL) (hls : ls.size = nL) (hS : va_S (zA M H0) H0 H locs) {C : String} {index b : Nat}
    (hlink : (Cond.methodLink own index yN1) ∈ lw_all) (hsel : (Cond.selects C yN1 yN1) ∈ lw_all) (hv : zRv s H b C) (hmu : zMn b {} H) (hw : (rest.map fun v => v.category).sum ≤ 8) (d : decode cc pc = .ok (.invokevirtual index, 3))
    (hR : 7 < R.frames ∧ 10248 ≤ R.locals ∧ cells + 3 ≤ R.cells ∧ slots + 40 ≤ R.slots)
    (kk : ∀ (H1 : Heap) (q9 : Addr) (ce : Cell), zF M0 H H1 → zMk H H1 → va_S (zA M H0) H0 H1 locs → H1[q9]? = some ce → ce.vm = .none → s.vm.findClass imE = some ce.cls → vx_W p l e R s m args below meth c H1 locs (cells + 3) (slots + 40) Q (F0 m pc ls rest) q9) :
    W p l e R s m args below meth c H locs cells slots Q (F0 m pc ls (.ref b :: rest)) := by
  subst hH
  have hNA : ∀ q, zA M s.heap q → zN s0 q := fun q hq => hq.elim (fun z => hMo q z) (fun z => Nat.le_trans hO.1 z)
  have hU : vx_Zq Bundle.tN "UNASSIGNED_STACK" Bundle.steD (zA M s.heap) s s.heap := ((h.e.2.2.2.1.2.2.2.2.2.2.2.1.moved h.w.alike).kept (fun a ha _ => hO.2 a ha)).narrow hNA
  have hN : vx_Zq Bundle.tN "SUPPRESSED_SENTINEL" Bundle.listD (zA M s.heap) s s.heap := ((h.e.2.2.2.1.2.2.2.2.2.2.2.2.moved h.w.alike).kept (fun a ha _ => hO.2 a ha)).narrow hNA
  have hat := z_wat h at_M ok_M.1
  have hgood : ∀ w ∈ vx_atM imE imN, vx_ot w = true := fun w hw => List.all_eq_true.mp ok_M.2 w hw
  intro T hT X
  obtain ⟨cellB, hcB, hoB, hclB⟩ := hv
  obtain ⟨c9, m1, m2⟩ := hmu
  cases Option.some.inj (hcB.symm.trans m1)
  have hcT : T.heap[b]? = some cellB := by rw [hT]; exact hcB
  obtain ⟨vm₁, mk, X1, hmk, st⟩ := zr_call X h.x h.o (h.t _ hlink) (h.t _ q1330) (h.t _ q1352) (h.t _ q1329) (h.t _ hsel) hcT hoB hclB (g := F0 m pc ls (.ref b :: rest)) rfl rfl (by rw [h.b]; exact d)
  have htr : e.platform.stackTraces = false := (show e.platform.stackTraces = l.stackTraces by rw [X.admits.platform]).trans h.e.2.2.1
  have Y := vx_rebase X1 (R' := { frames := R.frames, locals := R.locals, cells := 3, slots := 40 }) (Nat.le_refl _) (Nat.le_refl _) hR.2.2.1 hR.2.2.2
  have hhp : (((T.setVm vm₁).setVm s.vm).setFrames (.invoking m args :: below)).heap = H := hT
  have hW0 : s.WarmedH (((T.setVm vm₁).setVm s.vm).setFrames (.invoking m args :: below)).vm := State.WarmedH.refl s
  have hat' : ∀ w ∈ vx_atM imE imN, w.before args (((T.setVm vm₁).setVm s.vm).setFrames (.invoking m args :: below)) = true := fun w hw => vx_ot_at hW0 rfl (hgood w hw) (hat w hw)
  have hU' : vx_Zq Bundle.tN "UNASSIGNED_STACK" Bundle.steD (zA M s.heap) (((T.setVm vm₁).setVm s.vm).setFrames (.invoking m args :: below)) (((T.setVm vm₁).setVm s.vm).setFrames (.invoking m args :: below)).heap := by rw [hhp]; exact vx_Zq.moved hW0.alike (hU.kept hS.2.1)
  have hN' : vx_Zq Bundle.tN "SUPPRESSED_SENTINEL" Bundle.listD (zA M s.heap) (((T.setVm vm₁).setVm s.vm).setFrames (.invoking m args :: below)) (((T.setVm vm₁).setVm s.vm).setFrames (.invoking m args :: below)).heap := by rw [hhp]; exact vx_Zq.moved hW0.alike (hN.kept hS.2.1)
  have hnat' : (Cond.native yN1).before args (((T.setVm vm₁).setVm s.vm).setFrames (.invoking m args :: below)) = true := pay_in h.t lw_self _ q1352 _ _ hW0
  have hinst' : (Cond.instanceMethod yN1).before args (((T.setVm vm₁).setVm s.vm).setFrames (.invoking m args :: below)) = true := pay_in h.t lw_self _ q1329 _ _ hW0
  have hlen9 : (stringBytes (stringToUtf16 "current thread is not owner")).size = 27 := by decide +kernel
  have hB : BackT l { frames := R.frames, locals := R.locals, cells := 3, slots := 40 } p e below (((T.setVm vm₁).setVm s.vm).setFrames (.invoking m args :: below)) args yN1 3 8
      (fun A a => a = #[.ref b] ∧ A.U.heap = H ∧ A.U.cur = T.cur ∧ A.locs = [] ∧ A.cells = 0 ∧ A.slots = 0)
      (fun _ _ q B => zF M0 H B.U.heap ∧ zMk H B.U.heap ∧ (∃ ce : Cell, B.U.heap[q]? = some ce ∧ ce.vm = .none ∧ s.vm.findClass imE = some ce.cls) ∧ B.locs = [] ∧ B.cells = 3 ∧ B.slots ≤ 40) := by
    refine BackT.of_native (words := 1) (zrN1_row p) (nativeInstance hnat' hinst' zr_desc) (by show 1 ≤ R.frames; omega) (by rw [nativeFrameWords_plain 1 (by decide)]; show _ ≤ R.locals; omega) ?_
    rintro m' meth' c' ⟨U, l1, k1, n1⟩ a x g mk' X2 hg hsz hW2 hn2 hst hps ⟨rfl, hA1, hA2, hA3, hA4, hA5⟩
    dsimp only [Pt.U, Pt.locs, Pt.cells, Pt.slots] at X2 hA1 hA2 hA3 hA4 hA5
    subst hA3; subst hA4; subst hA5
    obtain ⟨S, q, ce, XS, hst1, hk1, hk2, hce, hcl, hcv⟩ := zx_natAt X2 h.x htr (cls := imE) (names := imN) (text := "current thread is not owner") (by decide) (by decide) (by decide) (by decide) (vx_own hat' (vx_isRefq hU'.1) (vx_isRefq hN'.1) hU'.2.word hN'.2.word) (fun x hx => nomatch hx) (by decide +kernel)
      (by rw [Launch.admits_arrayLengthLimit X.admits, hlen9]; decide) (by rw [Launch.admits_maxHeapBytes X.admits, hlen9]; decide) (g := g) hsz (nf := { method := mk', args := #[.ref b], locked := none }) rfl (by show 2 + 5 < R.frames; omega) (by show _ ≤ R.locals; omega) (by decide) (by show 0 + 3 ≤ 3; omega) (by show 0 + (_ + 4 + 6) ≤ 40; rw [hlen9]; omega)
    refine ⟨rfl, by simp [seenByNative, hst, hps], imE, some "current thread is not owner", fun u => u, fun _ => rfl, rfl, fun fs E hE => zr_nx (s := U.setFrames fs) (a := b) (cell := cellB) (by show U.heap[b]? = _; rw [hA1]; exact hcB) (by rw [m2]; exact fun z => by cases z) hE, q, ⟨S, [], 3, 37⟩, ?_, ?_, hst1⟩
    · have e37 : (0 + ((stringBytes (stringToUtf16 "current thread is not owner")).size + 4 + 6)) = 37 := by rw [hlen9]
      rw [e37] at XS
      exact XS
    · dsimp only [Pt.U, Pt.locs, Pt.cells, Pt.slots]
      rw [hA1] at hk1 hk2
      exact ⟨⟨hk2, fun q hq _ => hk1 q hq⟩, fun q9 c8 h8 => ⟨c8, (hk1 q9 (Array.getElem?_eq_some_iff.mp h8).1).trans h8, rfl⟩, ⟨ce, hce, hcv, hcl⟩, rfl, rfl, by decide⟩
  obtain ⟨q, ⟨S, l1, k1, n1⟩, XS, ⟨g1, g2, ⟨ce, g3, g4, g5⟩, g6, g7, g8⟩, hsteps⟩ := hB m meth c ⟨T.setVm vm₁, [], 0, 0⟩ (F0 m pc ls rest) (.invokevirtual index) mk #[.ref b] Y rfl (hls.trans hml.symm) (by rw [h.b]; exact d) (by show 2 * 0 + (rest.map fun v => v.category).sum ≤ 8; omega) hmk ⟨rfl, hT, rfl, rfl, rfl, rfl⟩
  dsimp only [Pt.U, Pt.locs, Pt.cells, Pt.slots] at XS g1 g2 g3 g6 g7 g8 hsteps
  subst g6; subst g7
  have X5 := vx_back9 X1 Y XS
  have X6 : Stand p l e R s m args below meth c S locs (cells + 3) (slots + 40) := { X5 with same := X5.same.mono (by omega) (by omega) }
  obtain ⟨t, a1, b1⟩ := kk S.heap q ce g1 g2 ⟨Nat.le_trans hS.1 g1.1, fun q h1 h2 => (g1.2 q (Nat.lt_of_lt_of_le h1 hS.1) id).trans (hS.2.1 q h1 h2), hS.2.2⟩ g3 g4 g5 S rfl X6
  exact ⟨t, st _ (hsteps.trans a1), b1⟩
end NTW
