/-! ROWS: calls by an abstract or inherited name, by an interface; comparisons of references -/
set_option maxRecDepth 100000
section R3
variable {p : Program} {l : Launch} {e : Env} {R : Room} {s : State} {m : MethodId} {args : Array Value} {below : List Frame} {meth : Method} {c : Code} {H : Heap} {locs : List Loc} {cells slots : Nat} {Q : State → Prop}
variable {cc : ByteArray} {pc : Nat} {ls : Array Slot} {rest : List Value} {s0 : State} {G : zG} {own : String} {A : Nat → Prop} {H0 : Heap} {ws : va_W} {M : Nat → Prop}
variable {x y : MethodName} {bytes : ByteArray} {maxL nL index n b count : Nat} {ret : Option FieldType} {rm : Room} {As st : List Value} {M1 : Nat → Prop} {P1 : Option Value → Heap → Prop} {X1 : String → Heap → Prop} {C owner : String}
theorem z_nd (h : zC p l s0 G s m args c own cc) {x : MethodName} (hq : Cond.declares x ∈ lw_tbl) : va_Nw (Cond.declares x) s := by
  obtain ⟨a0, ht⟩ := h.e.1
  exact (va_Nw.of (A := a0) rfl (ht _ hq)).warmD h.w
theorem z_runA (h : zC p l s0 G s m args c own cc) (hml : c.maxLocals = nL) (hls : ls.size = nL) (hM : zM l s0 y bytes maxL ret rm (.ref b :: As) H M1 P1) (hq : Cond.code y bytes maxL ret ∈ lw_all) (hl : Cond.methodLink own index x ∈ lw_all) (hsm : Cond.sameMethod x.cls owner x.name x.desc ∈ lw_all) (hs : Cond.selects C x y ∈ lw_all) (hi : Cond.instanceMethod y ∈ lw_all) (hini : Cond.initialized y.cls ∈ lw_all) (hdc : Cond.declares ⟨owner, x.name, x.desc⟩ ∈ lw_tbl) (hd : owner ≠ "java/lang/invoke/MethodHandle" ∧ owner ≠ "java/lang/invoke/VarHandle" ∧ (parseMethodDescriptor x.desc).map (fun d => d.parameters.length) = some n) (hn : As.length = n) (hv : zRv s H b C) (hst : st = As.reverse ++ .ref b :: rest) (hw : (rest.map fun v => v.category).sum ≤ 8) (hR : rm.frames + 1 ≤ R.frames ∧ 8 + (maxL + 11) + rm.locals ≤ R.locals) (hf : cells + rm.cells ≤ R.cells ∧ slots + rm.slots ≤ R.slots) (d : decode cc pc = .ok (.invokevirtual index, 3)) :
    va_Run p l e R s m args below meth c H locs cells slots rm.cells rm.slots (F0 m pc ls st) rest (zQ H M1 P1 (Value.ref b :: As).toArray) (zA M1 H) := by
  refine va_runU (own := own) (nL := nL) (C := C) (owner := owner) (x := x) ⟨h.x, h.b, hml, h.o, h.t⟩ hM (va_cwA n h.t ?_ rfl rfl rfl (z_nd h hdc) hd hR) ⟨zP_blind, hv, z_pre h⟩ rfl hn hls hst (lv_room hw) d hf
  refine lw_app ?_ (lw_meth hq)
  intro w hw
  simp only [List.mem_cons, List.not_mem_nil, or_false] at hw
  rcases hw with e | e | e | e | e
  · rw [e]; exact hl
  · rw [e]; exact hsm
  · rw [e]; exact hs
  · rw [e]; exact hi
  · rw [e]; exact hini
theorem z_fw (h : zC p l s0 G s m args c own cc) (hx : x.cls ≠ "java/lang/invoke/MethodHandle" ∧ x.cls ≠ "java/lang/invoke/VarHandle") (h1 : Cond.declares x ∈ lw_tbl) (h2 : Cond.interfaceMethod x.cls x.cls x.name x.desc ∈ lw_tbl) (h3 : Cond.publicMethod y ∈ lw_tbl) (h4 : Cond.unhidden C x.name x.desc ∈ lw_tbl) (h5 : Cond.castable C x.cls ∈ lw_tbl) : va_Fw C x y s := by
  obtain ⟨a0, ht⟩ := h.e.1
  exact va_Fw.moved hx h.w.alike (va_Fw.of (ht _ h1) (ht _ h2) (ht _ h3) (ht _ h4) (ht _ h5))
theorem z_runF {ci : Nat} {q : vw_C} (h : zC p l s0 G s m args c own cc) (hml : c.maxLocals = nL) (hls : ls.size = nL) (hM : zM l s0 y bytes maxL ret rm (.ref b :: As) H M1 P1) (hq : Cond.code y bytes maxL ret ∈ lw_all) (hl : Cond.methodLink own index x ∈ lw_all) (hs : Cond.selects C x y ∈ lw_all) (hi : Cond.instanceMethod y ∈ lw_all) (hini : Cond.initialized y.cls ∈ lw_all) (h1 : Cond.declares x ∈ lw_tbl) (h2 : Cond.interfaceMethod x.cls x.cls x.name x.desc ∈ lw_tbl) (h3 : Cond.publicMethod y ∈ lw_tbl) (h4 : Cond.unhidden C x.name x.desc ∈ lw_tbl) (h5 : Cond.castable C x.cls ∈ lw_tbl) (hd : x.cls ≠ "java/lang/invoke/MethodHandle" ∧ x.cls ≠ "java/lang/invoke/VarHandle" ∧ (parseMethodDescriptor x.desc).map (fun d => d.parameters.length) = some n) (hn : As.length = n) (hc : zCl[ci]? = some q) (hqC : q.1 = C) (hv : zRv s H b C) (hst : st = As.reverse ++ .ref b :: rest) (hw : (rest.map fun v => v.category).sum ≤ 8) (hR : rm.frames + 1 ≤ R.frames ∧ 8 + (maxL + 11) + rm.locals ≤ R.locals) (hf : cells + rm.cells ≤ R.cells ∧ slots + rm.slots ≤ R.slots) (d : decode cc pc = .ok (.invokeinterface index count, 5)) :
    va_Run5 p l e R s m args below meth c H locs cells slots rm.cells rm.slots (F0 m pc ls st) rest (zQ H M1 P1 (Value.ref b :: As).toArray) (zA M1 H) := by
  subst hqC
  refine va_runF (own := own) (nL := nL) (x := x) (h.k.1 ci _ hc).2 ⟨h.x, h.b, hml, h.o, h.t⟩ hM (va_cwF n h.t ?_ rfl rfl rfl (z_fw h ⟨hd.1, hd.2.1⟩ h1 h2 h3 h4 h5) hd hR) ⟨zP_blind, hv, z_pre h⟩ rfl hn hls hst (lv_room hw) d hf
  refine lw_app ?_ (lw_meth hq)
  intro w hw
  simp only [List.mem_cons, List.not_mem_nil, or_false] at hw
  rcases hw with e | e | e | e
  · rw [e]; exact hl
  · rw [e]; exact hs
  · rw [e]; exact hi
  · rw [e]; exact hini
theorem z_aeq (hx : p.tables.exec = Jvm.exec) (hb : c.code = cc) {a q : Nat} {off : Int} {tgt : Nat} (d : decode cc pc = .ok (.if_acmp .eq off, 3)) (ht : (pc : Int) + off = (tgt : Int)) (kt : a = q → W p l e R s m args below meth c H locs cells slots Q (F0 m tgt ls rest)) (kf : a ≠ q → W p l e R s m args below meth c H locs cells slots Q (F0 m (pc + 3) ls rest)) : W p l e R s m args below meth c H locs cells slots Q (F0 m pc ls (.ref q :: .ref a :: rest)) :=
  lv_acmp_eq (rx := some a) (ry := some q) hx hb d ht (fun z => kt (Option.some.inj z)) (fun z => kf (fun w => z (congrArg some w)))
theorem z_ane (hx : p.tables.exec = Jvm.exec) (hb : c.code = cc) {a q : Nat} {off : Int} {tgt : Nat} (d : decode cc pc = .ok (.if_acmp .ne off, 3)) (ht : (pc : Int) + off = (tgt : Int)) (kt : a ≠ q → W p l e R s m args below meth c H locs cells slots Q (F0 m tgt ls rest)) (kf : a = q → W p l e R s m args below meth c H locs cells slots Q (F0 m (pc + 3) ls rest)) : W p l e R s m args below meth c H locs cells slots Q (F0 m pc ls (.ref q :: .ref a :: rest)) :=
  lv_acmp_ne (rx := some a) (ry := some q) hx hb d ht (fun z => kt (fun w => z (congrArg some w))) (fun z => kf (Option.some.inj z))
/-- checkcast to a class of ours, of an object of that class -/
theorem z_cast (h : zC p l s0 G s m args c own cc) {a ci : Nat} {fs : List Value} {q : vw_C} {nm : String} (hc : zCl[ci]? = some q) (ha : zAt G a (zOb ci fs) H) (hq : q.1 = nm) (hl : Cond.classLink own index nm ∈ lw_all) (d : decode cc pc = .ok (.checkcast index, 3)) (k : W p l e R s m args below meth c H locs cells slots Q (F0 m (pc + 3) ls (.ref a :: rest))) : W p l e R s m args below meth c H locs cells slots Q (F0 m pc ls (.ref a :: rest)) := by
  subst hq
  exact va_castS h.x h.b h.o (h.t _ hl) (h.k.1 ci _ hc).2 (z_rv h hc ha rfl) d k
theorem z_castI (h : zC p l s0 G s m args c own cc) {a n : Nat} {v : Nat → Int} (ha : zAt G a (zI G n v) H) (hl : Cond.classLink own index "[I" ∈ lw_all) (d : decode cc pc = .ok (.checkcast index, 3)) (k : W p l e R s m args below meth c H locs cells slots Q (F0 m (pc + 3) ls (.ref a :: rest))) : W p l e R s m args below meth c H locs cells slots Q (F0 m pc ls (.ref a :: rest)) :=
  va_castA h.x h.b h.o (h.t _ hl) (zP1 ha) 0 rfl ((h.k.2 0 _ rfl).2) d k
/-- the small Integers -/
theorem z_cc {l : Launch} {s0 : State} {G : zG} (hE : zE l s0 G) {s : State} {H : Heap} (hW : s0.WarmedH s.vm) (ho : zO s0 H) {k : Nat} (hk : k < 256) : zRv s H (G.2 (1000 + k)) "java/lang/Integer" := by
  obtain ⟨cell, h1, h2, h3, -⟩ := zOo hW ho (hE.2.2.2.1.2.2.2.1.2.2.2.1 k hk)
  exact ⟨cell, h1, h2, h3⟩
theorem z_castC (h : zC p l s0 G s m args c own cc) (ho : zO s0 H) {k : Nat} (hk : k < 256) (hl : Cond.classLink own index "java/lang/Integer" ∈ lw_all) (d : decode cc pc = .ok (.checkcast index, 3)) (kk : W p l e R s m args below meth c H locs cells slots Q (F0 m (pc + 3) ls (.ref (G.2 (1000 + k)) :: rest))) : W p l e R s m args below meth c H locs cells slots Q (F0 m pc ls (.ref (G.2 (1000 + k)) :: rest)) := by
  obtain ⟨cC, hat⟩ := classAt_of (h.t _ q1093)
  exact va_castS h.x h.b h.o (h.t _ hl) hat (z_cc h.e h.w ho hk) d kk
theorem z_getC (h : zC p l s0 G s m args c own cc) (ho : zO s0 H) {k : Nat} {y : Int} (hk : k < 256) (hy : (k : Int) - 128 = y) (hq : Cond.fieldLink own index "java/lang/Integer" "value" "I" ∈ lw_all) (d : decode cc pc = .ok (.getfield index, 3)) (kk : W p l e R s m args below meth c H locs cells slots Q (F0 m (pc + 3) ls (.int (iI y) :: rest))) : W p l e R s m args below meth c H locs cells slots Q (F0 m pc ls (.ref (G.2 (1000 + k)) :: rest)) := by
  obtain ⟨cf, k1, fi, f, cell, h1, h2, h3, h4, h5, h6⟩ := zOF h.w ho (h.e.2.2.2.1.2.2.2.1.2.2.2.2 k hk)
  have hv : vb_c k = iI y := by
    rw [← hy]
    unfold vb_c
    rw [← iI_sub, iI_nat]; rfl
  exact W.getf h.x h.b h.o (h.t _ hq) h1 h2 h3 h4 (v := .int (iI y)) (by rw [h5, ← hv]) rfl rfl d kk
end R3
/-- a contract says no less of more -/
theorem zM.mono {l : Launch} {s0 : State} {y : MethodName} {cc : ByteArray} {maxL : Nat} {ret : Option FieldType} {rm : Room} {av : List Value} {H : Heap} {M M' : Nat → Prop} {P P' : Option Value → Heap → Prop} (h : zM l s0 y cc maxL ret rm av H M P) (hM : ∀ q, M q → M' q) (hP : ∀ r h, P r h → P' r h) : zM l s0 y cc maxL ret rm av H M' P' := by
  refine MetFree.mono h (fun _ _ h => h) (fun _ _ _ _ _ h => h) ?_
  rintro a st o t - ⟨⟨r, h1, h2, h3⟩, L, h4, h5⟩
  exact ⟨⟨r, h1, hP r _ h2, h3.mono (fun q _ => hM q)⟩, L, h4, fun q hq => (h5 q hq).imp (hM _) id⟩
section R4
variable {p : Program} {l : Launch} {e : Env} {R : Room} {s : State} {m : MethodId} {args : Array Value} {below : List Frame} {meth : Method} {c : Code} {H : Heap} {locs : List Loc} {cells slots : Nat} {Q : State → Prop}
variable {cc : ByteArray} {pc : Nat} {ls : Array Slot} {rest : List Value} {s0 : State} {G : zG} {own : String} {A : Nat → Prop} {H0 : Heap} {ws : va_W} {M : Nat → Prop}
/-- putfield, and no other cell changes -/
theorem z_putO (h : zC p l s0 G s m args c own cc) (hP : va_P G.1 zCl ws H) (hD : va_D A ws) (hS : va_S A H0 H locs) (q0 : Nat) {a ci : Nat} {fs : List Value} {C : String} {T : u_T} {N k index : Nat} {ref : String} {v : Value} {ty : FieldType} {ty0 : Nat → FieldType} {ws' : va_W} (he : ws[q0]? = some (a, zOb ci fs)) (hc : zCl[ci]? = some (C, T, N)) (hin : ∀ w ∈ u_ws C T N, w ∈ lw_all) (hty : ∀ k, k < N → parseFieldDescriptor (T k).2.2.1 = some (ty0 k)) (hnm : ∀ a, a < N → ∀ b, b < N → a ≠ b → (T a).2.1 ≠ (T b).2.1) (hk : k < N) (hq : Cond.fieldLink own index ref (T k).2.1 (T k).2.2.1 ∈ lw_all) (hsame : ∀ x, s.fieldFound? (T k).1 (T k).2.1 (T k).2.2.1 = some x → s.fieldFound? ref (T k).2.1 (T k).2.2.1 = some x) (hfin : (T k).2.2.2 = false) (ht : ty0 k = ty) (hn : narrow ty v = v) (hfit : fits ty v = true) (hl : k < fs.length) (hw : ws.set q0 (a, zOb ci (fs.set k v)) = ws') (d : decode cc pc = .ok (.putfield index, 3))
    (kk : ∀ (H1 : Heap) (locs1 : List Loc), va_P G.1 zCl ws' H1 → va_D A ws' → va_S A H0 H1 locs1 → H1.size = H.size → (∀ z : Nat, z ≠ a → H1[z]? = H[z]?) → W p l e R s m args below meth c H1 locs1 cells slots Q (F0 m (pc + 3) ls rest)) : W p l e R s m args below meth c H locs cells slots Q (F0 m pc ls (v :: .ref a :: rest)) := by
  have hap := va_apart (own := own) h.t hin ty0 hty hnm h.k hc
  obtain ⟨r, h1, cell, q1, q2, q3, q4⟩ := hP q0 _ he
  cases Option.some.inj (h1.symm.trans hc)
  obtain ⟨hF, hfc, kC, hkC, hkind⟩ := h.k.1 ci _ hc
  obtain ⟨cf, kf, fi, f, hi, hsl⟩ := hF k hk
  have hlay := h.t _ (hin _ (u_in_lay hk))
  unfold u_lay at hlay
  rw [if_neg (by rw [hfin]; decide)] at hlay
  have h6 := u_store hfc hkC hkind hlay hi (by rw [hty k hk, ht]) hn hfit
  refine W.putK h.x h.b (f := f) ⟨h.o, h.t _ hq, ⟨_, _, _, hsame _ hi⟩, (u_facts hfc hkC (u_lays h.t hin hk) hi).1⟩ (by rw [q2]; exact h6) q1 q3 (by rw [hsl]; exact k2_hasslot (q4 k hk)) rfl rfl d fun H' e1 e2 e3 => ?_
  rw [hsl] at e1 ⊢
  subst hw
  exact kk H' _ (hP.set hD he ⟨_, hc, t_OB.to (V := updV (vp_V fs) k v) ⟨_, e1, q2, q3, t_set q4 hap hk v⟩ (fun j _ => vp_updV_set hl v j)⟩ e3) (hD.set he) (hS.put e2 e3 (hD.2 q0 _ he)) e2 e3
end R4
section R5
variable {p : Program} {l : Launch} {e : Env} {R : Room} {s : State} {m : MethodId} {args : Array Value} {below : List Frame} {meth : Method} {c : Code} {H : Heap} {locs : List Loc} {cells slots : Nat} {Q : State → Prop}
variable {cc : ByteArray} {pc : Nat} {ls : Array Slot} {rest : List Value}
theorem z_ceqT (hx : p.tables.exec = Jvm.exec) (hb : c.code = cc) {x : Int32} {off : Int} (d : decode cc pc = .ok (.if_icmp .eq off, 3)) (tgt : Nat) (ht : (pc : Int) + off = (tgt : Int)) (k : W p l e R s m args below meth c H locs cells slots Q (F0 m tgt ls rest)) : W p l e R s m args below meth c H locs cells slots Q (F0 m pc ls (.int x :: .int x :: rest)) :=
  lv_icmp_eq hx hb d ht (fun _ => k) (fun z => absurd rfl z)
end R5
theorem iI_x0 {a b : Int} (ha : zi a) (hb : zi b) (h0 : 0 ≤ b) : 0 ≤ iI a ^^^ iI b ↔ 0 ≤ a := by
  have h1 : ∀ x : Int32, 0 ≤ x ↔ x.toBitVec.msb = false := by
    intro x
    rw [Int32.le_iff_toInt_le, Int32.toInt_zero]
    show 0 ≤ x.toBitVec.toInt ↔ _
    rw [BitVec.msb_eq_toInt]
    simp
  have h2 : (iI b).toBitVec.msb = false := (h1 _).mp ((iI_g0 hb).mpr h0)
  rw [h1, ← iI_g0 ha, h1]
  show ((iI a).toBitVec ^^^ (iI b).toBitVec).msb = false ↔ _
  rw [BitVec.msb_xor, h2]
  simp
theorem iI_fm {a b : Int} (h : a < 0) (hb : 0 < b) : (-b < a.tmod b ∧ a.tmod b ≤ 0) ∧ ((a.tmod b = 0 ∧ a % b = 0) ∨ (a.tmod b ≠ 0 ∧ a % b = a.tmod b + b)) := by
  have h1 := Int.tmod_add_mul_tdiv a b
  have h2 := Int.emod_add_mul_ediv a b
  have h3 := Int.emod_nonneg a (show b ≠ 0 by omega)
  have h4 := Int.emod_lt_of_pos a hb
  have h5 : -b < a.tmod b ∧ a.tmod b ≤ 0 := by
    have e : a.tmod b = -((-a).tmod b) := by rw [Int.neg_tmod]; omega
    have e2 : (-a).tmod b = (-a) % b := Int.tmod_eq_emod_of_nonneg (by omega)
    have e3 := Int.emod_nonneg (-a) (show b ≠ 0 by omega)
    have e4 := Int.emod_lt_of_pos (-a) hb
    omega
  have h6 : a.tmod b % b = a % b := Int.emod_eq_emod_iff_emod_sub_eq_zero.mpr (by
    have : a.tmod b - a = b * (-(a.tdiv b)) := by rw [Int.mul_neg]; omega
    rw [this]; exact Int.mul_emod_right b _)
  refine ⟨h5, ?_⟩
  by_cases h0 : a.tmod b = 0
  · left; rw [h0] at h6; exact ⟨h0, by rw [← h6]; exact Int.zero_emod b⟩
  · right
    refine ⟨h0, ?_⟩
    have h7 : (a.tmod b + b) % b = a % b := by rw [Int.add_emod_right]; exact h6
    rw [← h7]
    exact Int.emod_eq_of_lt (by omega) (by omega)
