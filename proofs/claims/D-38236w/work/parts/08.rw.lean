/-! ROWS over Int -/
set_option maxRecDepth 100000
/-- what holds all through a method's body -/
def zC (p : Program) (l : Launch) (s0 : State) (G : zG) (s : State) (m : MethodId) (args : Array Value) (c : Code) (own : String) (cc : ByteArray) : Prop :=
  p.tables.exec = Jvm.exec ∧ c.code = cc ∧ s.vm.findClass own = some m.cls ∧ (∀ w ∈ lw_all, w.before args s = true) ∧ va_K G.1 zCl (zTy G) s ∧ s0.WarmedH s.vm ∧ zE l s0 G
theorem zC.x {p l s0 G s m args c own cc} (h : zC p l s0 G s m args c own cc) : p.tables.exec = Jvm.exec := h.1
theorem zC.b {p l s0 G s m args c own cc} (h : zC p l s0 G s m args c own cc) : c.code = cc := h.2.1
theorem zC.o {p l s0 G s m args c own cc} (h : zC p l s0 G s m args c own cc) : s.vm.findClass own = some m.cls := h.2.2.1
theorem zC.t {p l s0 G s m args c own cc} (h : zC p l s0 G s m args c own cc) : ∀ w ∈ lw_all, w.before args s = true := h.2.2.2.1
theorem zC.k {p l s0 G s m args c own cc} (h : zC p l s0 G s m args c own cc) : va_K G.1 zCl (zTy G) s := h.2.2.2.2.1
theorem zC.w {p l s0 G s m args c own cc} (h : zC p l s0 G s m args c own cc) : s0.WarmedH s.vm := h.2.2.2.2.2.1
theorem zC.e {p l s0 G s m args c own cc} (h : zC p l s0 G s m args c own cc) : zE l s0 G := h.2.2.2.2.2.2
section ROWS
variable {p : Program} {l : Launch} {e : Env} {R : Room} {s : State} {m : MethodId} {args : Array Value} {below : List Frame} {meth : Method} {c : Code} {H : Heap} {locs : List Loc} {cells slots : Nat} {Q : State → Prop}
variable {cc : ByteArray} {pc : Nat} {ls : Array Slot} {rest : List Value} {s0 : State} {G : zG} {own : String} {A : Nat → Prop} {H0 : Heap} {ws : va_W} {M : Nat → Prop}
theorem z_add (hx : p.tables.exec = Jvm.exec) (hb : c.code = cc) {a b z : Int} (d : decode cc pc = .ok (.iadd, 1)) (hz : a + b = z) (k : W p l e R s m args below meth c H locs cells slots Q (F0 m (pc + 1) ls (.int (iI z) :: rest))) : W p l e R s m args below meth c H locs cells slots Q (F0 m pc ls (.int (iI b) :: .int (iI a) :: rest)) :=
  lv_iadd hx hb d (by rw [iI_add, hz]; exact k)
theorem z_sub (hx : p.tables.exec = Jvm.exec) (hb : c.code = cc) {a b z : Int} (d : decode cc pc = .ok (.isub, 1)) (hz : a - b = z) (k : W p l e R s m args below meth c H locs cells slots Q (F0 m (pc + 1) ls (.int (iI z) :: rest))) : W p l e R s m args below meth c H locs cells slots Q (F0 m pc ls (.int (iI b) :: .int (iI a) :: rest)) :=
  lv_isub hx hb d (by rw [iI_sub, hz]; exact k)
theorem z_mul (hx : p.tables.exec = Jvm.exec) (hb : c.code = cc) {a b z : Int} (d : decode cc pc = .ok (.imul, 1)) (hz : a * b = z) (k : W p l e R s m args below meth c H locs cells slots Q (F0 m (pc + 1) ls (.int (iI z) :: rest))) : W p l e R s m args below meth c H locs cells slots Q (F0 m pc ls (.int (iI b) :: .int (iI a) :: rest)) :=
  lv_imul hx hb d (by rw [iI_mul, hz]; exact k)
theorem z_neg (hx : p.tables.exec = Jvm.exec) (hb : c.code = cc) {a z : Int} (d : decode cc pc = .ok (.ineg, 1)) (hz : -a = z) (k : W p l e R s m args below meth c H locs cells slots Q (F0 m (pc + 1) ls (.int (iI z) :: rest))) : W p l e R s m args below meth c H locs cells slots Q (F0 m pc ls (.int (iI a) :: rest)) :=
  lv_ineg hx hb d (by rw [iI_neg, hz]; exact k)
theorem z_div (hx : p.tables.exec = Jvm.exec) (hb : c.code = cc) {a b z : Int} (d : decode cc pc = .ok (.idiv, 1)) (ha : zi a ∧ zi b ∧ b ≠ 0 ∧ b ≠ -1) (hz : Int.tdiv a b = z) (k : W p l e R s m args below meth c H locs cells slots Q (F0 m (pc + 1) ls (.int (iI z) :: rest))) : W p l e R s m args below meth c H locs cells slots Q (F0 m pc ls (.int (iI b) :: .int (iI a) :: rest)) :=
  lv_idiv hx hb d (fun q => ha.2.2.1 ((iI_z0 ha.2.1).mp q)) (by rw [iI_div ha.1 ha.2.1 (fun q => ha.2.2.2 q.2), hz]; exact k)
theorem z_rem (hx : p.tables.exec = Jvm.exec) (hb : c.code = cc) {a b z : Int} (d : decode cc pc = .ok (.irem, 1)) (ha : zi a ∧ zi b ∧ b ≠ 0) (hz : Int.tmod a b = z) (k : W p l e R s m args below meth c H locs cells slots Q (F0 m (pc + 1) ls (.int (iI z) :: rest))) : W p l e R s m args below meth c H locs cells slots Q (F0 m pc ls (.int (iI b) :: .int (iI a) :: rest)) :=
  lv_irem hx hb d (fun q => ha.2.2 ((iI_z0 ha.2.1).mp q)) (by rw [iI_rem ha.1 ha.2.1, hz]; exact k)
theorem z_and (hx : p.tables.exec = Jvm.exec) (hb : c.code = cc) {a b : Int} {i j n : Nat} (d : decode cc pc = .ok (.iand, 1)) (ha : a = i) (hb' : b = j) (hn : i &&& j = n) (k : W p l e R s m args below meth c H locs cells slots Q (F0 m (pc + 1) ls (.int (iI (n : Int)) :: rest))) : W p l e R s m args below meth c H locs cells slots Q (F0 m pc ls (.int (iI b) :: .int (iI a) :: rest)) := by
  subst ha; subst hb'; subst hn
  exact lv_iand hx hb d (by rw [iI_and]; exact k)
theorem z_or (hx : p.tables.exec = Jvm.exec) (hb : c.code = cc) {a b : Int} {i j n : Nat} (d : decode cc pc = .ok (.ior, 1)) (ha : a = i) (hb' : b = j) (hn : i ||| j = n) (k : W p l e R s m args below meth c H locs cells slots Q (F0 m (pc + 1) ls (.int (iI (n : Int)) :: rest))) : W p l e R s m args below meth c H locs cells slots Q (F0 m pc ls (.int (iI b) :: .int (iI a) :: rest)) := by
  subst ha; subst hb'; subst hn
  exact lv_ior hx hb d (by rw [iI_or]; exact k)
theorem z_xor (hx : p.tables.exec = Jvm.exec) (hb : c.code = cc) {a b : Int} {i j n : Nat} (d : decode cc pc = .ok (.ixor, 1)) (ha : a = i) (hb' : b = j) (hn : i ^^^ j = n) (k : W p l e R s m args below meth c H locs cells slots Q (F0 m (pc + 1) ls (.int (iI (n : Int)) :: rest))) : W p l e R s m args below meth c H locs cells slots Q (F0 m pc ls (.int (iI b) :: .int (iI a) :: rest)) := by
  subst ha; subst hb'; subst hn
  exact lv_ixor hx hb d (by rw [iI_xor]; exact k)
theorem z_shl (hx : p.tables.exec = Jvm.exec) (hb : c.code = cc) {a b : Int} {i j n : Nat} (d : decode cc pc = .ok (.ishl, 1)) (ha : a = i) (hb' : b = j) (hr : j < 32 ∧ i * 2 ^ j < 2 ^ 32) (hn : i * 2 ^ j = n) (k : W p l e R s m args below meth c H locs cells slots Q (F0 m (pc + 1) ls (.int (iI (n : Int)) :: rest))) : W p l e R s m args below meth c H locs cells slots Q (F0 m pc ls (.int (iI b) :: .int (iI a) :: rest)) := by
  subst ha; subst hb'; subst hn
  exact lv_ishl hx hb d (by rw [iI_shl hr.1 hr.2]; exact k)
theorem z_shr (hx : p.tables.exec = Jvm.exec) (hb : c.code = cc) {a b : Int} {i j n : Nat} (d : decode cc pc = .ok (.ishr, 1)) (ha : a = i) (hb' : b = j) (hr : j < 32 ∧ i < 2147483648) (hn : i / 2 ^ j = n) (k : W p l e R s m args below meth c H locs cells slots Q (F0 m (pc + 1) ls (.int (iI (n : Int)) :: rest))) : W p l e R s m args below meth c H locs cells slots Q (F0 m pc ls (.int (iI b) :: .int (iI a) :: rest)) := by
  subst ha; subst hb'; subst hn
  exact lv_ishr hx hb d (by rw [iI_shr hr.1 hr.2]; exact k)
theorem z_i2l (hx : p.tables.exec = Jvm.exec) (hb : c.code = cc) {a : Int} (d : decode cc pc = .ok (.i2l, 1)) (ha : zi a) (k : W p l e R s m args below meth c H locs cells slots Q (F0 m (pc + 1) ls (.long (lI a) :: rest))) : W p l e R s m args below meth c H locs cells slots Q (F0 m pc ls (.int (iI a) :: rest)) :=
  lv_i2l hx hb d (iI_l ha) k
theorem z_ladd (hx : p.tables.exec = Jvm.exec) (hb : c.code = cc) {a b z : Int} (d : decode cc pc = .ok (.ladd, 1)) (hz : a + b = z) (k : W p l e R s m args below meth c H locs cells slots Q (F0 m (pc + 1) ls (.long (lI z) :: rest))) : W p l e R s m args below meth c H locs cells slots Q (F0 m pc ls (.long (lI b) :: .long (lI a) :: rest)) :=
  lv_ladd hx hb d (by rw [lI_add, hz]; exact k)
theorem z_lmul (hx : p.tables.exec = Jvm.exec) (hb : c.code = cc) {a b z : Int} (d : decode cc pc = .ok (.lmul, 1)) (hz : a * b = z) (k : W p l e R s m args below meth c H locs cells slots Q (F0 m (pc + 1) ls (.long (lI z) :: rest))) : W p l e R s m args below meth c H locs cells slots Q (F0 m pc ls (.long (lI b) :: .long (lI a) :: rest)) :=
  lv_lmul hx hb d (by rw [lI_mul, hz]; exact k)
theorem z_iinc (hx : p.tables.exec = Jvm.exec) (hb : c.code = cc) {i nL k : Nat} {n : Int} {a z : Int} {lv lv' : List (Nat × Value)} (d : decode cc pc = .ok (.iinc i n, 3)) (h : lv_has ls nL lv) (hk : lv[k]? = some (i, .int (iI a))) (hz : a + n = z) (hn : i < nL) (hl : (i, Value.int (iI z)) :: lv.filter (fun q => !(q.1 == i) && !(q.1 + 1 == i && q.2.category == 2)) = lv') (kk : ∀ ls' : Array Slot, lv_has ls' nL lv' → W p l e R s m args below meth c H locs cells slots Q (F0 m (pc + 3) ls' rest)) : W p l e R s m args below meth c H locs cells slots Q (F0 m pc ls rest) :=
  lv_iinc hx hb d h hk (by rw [← hz]; exact iI_add a n) hn hl kk
theorem z_ceq (hx : p.tables.exec = Jvm.exec) (hb : c.code = cc) {a b : Int} {off : Int} {tgt : Nat} (d : decode cc pc = .ok (.if_icmp .eq off, 3)) (ht : (pc : Int) + off = (tgt : Int)) (h : zi a ∧ zi b) (kt : a = b → W p l e R s m args below meth c H locs cells slots Q (F0 m tgt ls rest)) (kf : ¬ a = b → W p l e R s m args below meth c H locs cells slots Q (F0 m (pc + 3) ls rest)) : W p l e R s m args below meth c H locs cells slots Q (F0 m pc ls (.int (iI b) :: .int (iI a) :: rest)) :=
  lv_icmp_eq hx hb d ht (fun q => kt ((iI_eq h.1 h.2).mp q)) (fun q => kf (fun z => q ((iI_eq h.1 h.2).mpr z)))
theorem z_cne (hx : p.tables.exec = Jvm.exec) (hb : c.code = cc) {a b : Int} {off : Int} {tgt : Nat} (d : decode cc pc = .ok (.if_icmp .ne off, 3)) (ht : (pc : Int) + off = (tgt : Int)) (h : zi a ∧ zi b) (kt : ¬ a = b → W p l e R s m args below meth c H locs cells slots Q (F0 m tgt ls rest)) (kf : a = b → W p l e R s m args below meth c H locs cells slots Q (F0 m (pc + 3) ls rest)) : W p l e R s m args below meth c H locs cells slots Q (F0 m pc ls (.int (iI b) :: .int (iI a) :: rest)) :=
  lv_icmp_ne hx hb d ht (fun q => kt (fun z => q ((iI_eq h.1 h.2).mpr z))) (fun q => kf ((iI_eq h.1 h.2).mp (by first | exact q | exact Decidable.not_not.mp q)))
theorem z_clt (hx : p.tables.exec = Jvm.exec) (hb : c.code = cc) {a b : Int} {off : Int} {tgt : Nat} (d : decode cc pc = .ok (.if_icmp .lt off, 3)) (ht : (pc : Int) + off = (tgt : Int)) (h : zi a ∧ zi b) (kt : a < b → W p l e R s m args below meth c H locs cells slots Q (F0 m tgt ls rest)) (kf : b ≤ a → W p l e R s m args below meth c H locs cells slots Q (F0 m (pc + 3) ls rest)) : W p l e R s m args below meth c H locs cells slots Q (F0 m pc ls (.int (iI b) :: .int (iI a) :: rest)) :=
  lv_icmp_lt hx hb d ht (fun q => kt ((iI_lt h.1 h.2).mp q)) (fun q => kf (Int.not_lt.mp (fun z => q ((iI_lt h.1 h.2).mpr z))))
theorem z_cge (hx : p.tables.exec = Jvm.exec) (hb : c.code = cc) {a b : Int} {off : Int} {tgt : Nat} (d : decode cc pc = .ok (.if_icmp .ge off, 3)) (ht : (pc : Int) + off = (tgt : Int)) (h : zi a ∧ zi b) (kt : b ≤ a → W p l e R s m args below meth c H locs cells slots Q (F0 m tgt ls rest)) (kf : a < b → W p l e R s m args below meth c H locs cells slots Q (F0 m (pc + 3) ls rest)) : W p l e R s m args below meth c H locs cells slots Q (F0 m pc ls (.int (iI b) :: .int (iI a) :: rest)) :=
  lv_icmp_ge hx hb d ht (fun q => kt ((iI_le h.2 h.1).mp q)) (fun q => kf (Int.not_le.mp (fun z => q ((iI_le h.2 h.1).mpr z))))
theorem z_cgt (hx : p.tables.exec = Jvm.exec) (hb : c.code = cc) {a b : Int} {off : Int} {tgt : Nat} (d : decode cc pc = .ok (.if_icmp .gt off, 3)) (ht : (pc : Int) + off = (tgt : Int)) (h : zi a ∧ zi b) (kt : b < a → W p l e R s m args below meth c H locs cells slots Q (F0 m tgt ls rest)) (kf : a ≤ b → W p l e R s m args below meth c H locs cells slots Q (F0 m (pc + 3) ls rest)) : W p l e R s m args below meth c H locs cells slots Q (F0 m pc ls (.int (iI b) :: .int (iI a) :: rest)) :=
  lv_icmp_gt hx hb d ht (fun q => kt ((iI_lt h.2 h.1).mp q)) (fun q => kf (Int.not_lt.mp (fun z => q ((iI_lt h.2 h.1).mpr z))))
theorem z_cle (hx : p.tables.exec = Jvm.exec) (hb : c.code = cc) {a b : Int} {off : Int} {tgt : Nat} (d : decode cc pc = .ok (.if_icmp .le off, 3)) (ht : (pc : Int) + off = (tgt : Int)) (h : zi a ∧ zi b) (kt : a ≤ b → W p l e R s m args below meth c H locs cells slots Q (F0 m tgt ls rest)) (kf : b < a → W p l e R s m args below meth c H locs cells slots Q (F0 m (pc + 3) ls rest)) : W p l e R s m args below meth c H locs cells slots Q (F0 m pc ls (.int (iI b) :: .int (iI a) :: rest)) :=
  lv_icmp_le hx hb d ht (fun q => kt ((iI_le h.1 h.2).mp q)) (fun q => kf (Int.not_le.mp (fun z => q ((iI_le h.1 h.2).mpr z))))
theorem z_zeq (hx : p.tables.exec = Jvm.exec) (hb : c.code = cc) {a : Int} {off : Int} {tgt : Nat} (d : decode cc pc = .ok (.ifCond .eq off, 3)) (ht : (pc : Int) + off = (tgt : Int)) (h : zi a) (kt : a = 0 → W p l e R s m args below meth c H locs cells slots Q (F0 m tgt ls rest)) (kf : ¬ a = 0 → W p l e R s m args below meth c H locs cells slots Q (F0 m (pc + 3) ls rest)) : W p l e R s m args below meth c H locs cells slots Q (F0 m pc ls (.int (iI a) :: rest)) :=
  lv_if_eq hx hb d ht (fun q => kt ((iI_z0 h).mp q)) (fun q => kf (fun z => q ((iI_z0 h).mpr z)))
theorem z_zne (hx : p.tables.exec = Jvm.exec) (hb : c.code = cc) {a : Int} {off : Int} {tgt : Nat} (d : decode cc pc = .ok (.ifCond .ne off, 3)) (ht : (pc : Int) + off = (tgt : Int)) (h : zi a) (kt : ¬ a = 0 → W p l e R s m args below meth c H locs cells slots Q (F0 m tgt ls rest)) (kf : a = 0 → W p l e R s m args below meth c H locs cells slots Q (F0 m (pc + 3) ls rest)) : W p l e R s m args below meth c H locs cells slots Q (F0 m pc ls (.int (iI a) :: rest)) :=
  lv_if_ne hx hb d ht (fun q => kt (fun z => q ((iI_z0 h).mpr z))) (fun q => kf ((iI_z0 h).mp (by first | exact q | exact Decidable.not_not.mp q)))
theorem z_zlt (hx : p.tables.exec = Jvm.exec) (hb : c.code = cc) {a : Int} {off : Int} {tgt : Nat} (d : decode cc pc = .ok (.ifCond .lt off, 3)) (ht : (pc : Int) + off = (tgt : Int)) (h : zi a) (kt : a < 0 → W p l e R s m args below meth c H locs cells slots Q (F0 m tgt ls rest)) (kf : 0 ≤ a → W p l e R s m args below meth c H locs cells slots Q (F0 m (pc + 3) ls rest)) : W p l e R s m args below meth c H locs cells slots Q (F0 m pc ls (.int (iI a) :: rest)) :=
  lv_if_lt hx hb d ht (fun q => kt ((iI_l0 h).mp q)) (fun q => kf (Int.not_lt.mp (fun z => q ((iI_l0 h).mpr z))))
theorem z_zge (hx : p.tables.exec = Jvm.exec) (hb : c.code = cc) {a : Int} {off : Int} {tgt : Nat} (d : decode cc pc = .ok (.ifCond .ge off, 3)) (ht : (pc : Int) + off = (tgt : Int)) (h : zi a) (kt : 0 ≤ a → W p l e R s m args below meth c H locs cells slots Q (F0 m tgt ls rest)) (kf : a < 0 → W p l e R s m args below meth c H locs cells slots Q (F0 m (pc + 3) ls rest)) : W p l e R s m args below meth c H locs cells slots Q (F0 m pc ls (.int (iI a) :: rest)) :=
  lv_if_ge hx hb d ht (fun q => kt ((iI_g0 h).mp q)) (fun q => kf (Int.not_le.mp (fun z => q ((iI_g0 h).mpr z))))
theorem z_zgt (hx : p.tables.exec = Jvm.exec) (hb : c.code = cc) {a : Int} {off : Int} {tgt : Nat} (d : decode cc pc = .ok (.ifCond .gt off, 3)) (ht : (pc : Int) + off = (tgt : Int)) (h : zi a) (kt : 0 < a → W p l e R s m args below meth c H locs cells slots Q (F0 m tgt ls rest)) (kf : a ≤ 0 → W p l e R s m args below meth c H locs cells slots Q (F0 m (pc + 3) ls rest)) : W p l e R s m args below meth c H locs cells slots Q (F0 m pc ls (.int (iI a) :: rest)) :=
  lv_if_gt hx hb d ht (fun q => kt ((iI_0l h).mp q)) (fun q => kf (Int.not_lt.mp (fun z => q ((iI_0l h).mpr z))))
theorem z_zle (hx : p.tables.exec = Jvm.exec) (hb : c.code = cc) {a : Int} {off : Int} {tgt : Nat} (d : decode cc pc = .ok (.ifCond .le off, 3)) (ht : (pc : Int) + off = (tgt : Int)) (h : zi a) (kt : a ≤ 0 → W p l e R s m args below meth c H locs cells slots Q (F0 m tgt ls rest)) (kf : 0 < a → W p l e R s m args below meth c H locs cells slots Q (F0 m (pc + 3) ls rest)) : W p l e R s m args below meth c H locs cells slots Q (F0 m pc ls (.int (iI a) :: rest)) :=
  lv_if_le hx hb d ht (fun q => kt ((iI_le0 h).mp q)) (fun q => kf (Int.not_le.mp (fun z => q ((iI_le0 h).mpr z))))
/-! fields -/
theorem z_get (h : zC p l s0 G s m args c own cc) {a ci : Nat} {fs : List Value} {C : String} {T : u_T} {N k index : Nat} {ref : String} {v : Value} (hc : zCl[ci]? = some (C, T, N)) (hin : ∀ w ∈ u_ws C T N, w ∈ lw_all) (ha : zAt G a (zOb ci fs) H) (hk : k < N) (hq : Cond.fieldLink own index ref (T k).2.1 (T k).2.2.1 ∈ lw_all) (hsame : ∀ x, s.fieldFound? (T k).1 (T k).2.1 (T k).2.2.1 = some x → s.fieldFound? ref (T k).2.1 (T k).2.2.1 = some x) (hv : fs[k]? = some v) (d : decode cc pc = .ok (.getfield index, 3))
    (kk : W p l e R s m args below meth c H locs cells slots Q (F0 m (pc + 3) ls (v :: rest))) : W p l e R s m args below meth c H locs cells slots Q (F0 m pc ls (.ref a :: rest)) :=
  va_get h.x h.b h.t hin h.o h.k (zP1 ha) 0 rfl hc k hk (h.t _ hq) hsame hv d kk
theorem z_nf (h : zC p l s0 G s m args c own cc) {a : String} {i : Nat} {b n d hh : String} (hq : Cond.fieldLinkNest a i b n d hh ∈ lw_tbl) : (Cond.fieldLinkNest a i b n d hh).before args s = true := by
  obtain ⟨a0, ht⟩ := h.e.1
  exact va_Nw.use rfl ((va_Nw.of (A := a0) rfl (ht _ hq)).warmF h.w)
theorem z_getn (h : zC p l s0 G s m args c own cc) {a ci : Nat} {fs : List Value} {C : String} {T : u_T} {N k index : Nat} {ref host : String} {v : Value} (hc : zCl[ci]? = some (C, T, N)) (hin : ∀ w ∈ u_ws C T N, w ∈ lw_all) (ha : zAt G a (zOb ci fs) H) (hk : k < N) (hq : Cond.fieldLinkNest own index ref (T k).2.1 (T k).2.2.1 host ∈ lw_tbl) (hsame : ∀ x, s.fieldFound? (T k).1 (T k).2.1 (T k).2.2.1 = some x → s.fieldFound? ref (T k).2.1 (T k).2.2.1 = some x) (hv : fs[k]? = some v) (d : decode cc pc = .ok (.getfield index, 3))
    (kk : W p l e R s m args below meth c H locs cells slots Q (F0 m (pc + 3) ls (v :: rest))) : W p l e R s m args below meth c H locs cells slots Q (F0 m pc ls (.ref a :: rest)) :=
  va_getN h.x h.b h.t hin h.o h.k (zP1 ha) 0 rfl hc k hk (z_nf h hq) hsame hv d kk
theorem z_put (h : zC p l s0 G s m args c own cc) (hP : va_P G.1 zCl ws H) (hD : va_D A ws) (hS : va_S A H0 H locs) (q0 : Nat) {a ci : Nat} {fs : List Value} {C : String} {T : u_T} {N k index : Nat} {ref : String} {v : Value} {ty : FieldType} {ty0 : Nat → FieldType} {ws' : va_W} (he : ws[q0]? = some (a, zOb ci fs)) (hc : zCl[ci]? = some (C, T, N)) (hin : ∀ w ∈ u_ws C T N, w ∈ lw_all) (hty : ∀ k, k < N → parseFieldDescriptor (T k).2.2.1 = some (ty0 k)) (hnm : ∀ a, a < N → ∀ b, b < N → a ≠ b → (T a).2.1 ≠ (T b).2.1) (hk : k < N) (hq : Cond.fieldLink own index ref (T k).2.1 (T k).2.2.1 ∈ lw_all) (hsame : ∀ x, s.fieldFound? (T k).1 (T k).2.1 (T k).2.2.1 = some x → s.fieldFound? ref (T k).2.1 (T k).2.2.1 = some x) (hfin : (T k).2.2.2 = false) (ht : ty0 k = ty) (hn : narrow ty v = v) (hfit : fits ty v = true) (hl : k < fs.length) (hw : ws.set q0 (a, zOb ci (fs.set k v)) = ws') (d : decode cc pc = .ok (.putfield index, 3))
    (kk : ∀ (H1 : Heap) (locs1 : List Loc), va_P G.1 zCl ws' H1 → va_D A ws' → va_S A H0 H1 locs1 → W p l e R s m args below meth c H1 locs1 cells slots Q (F0 m (pc + 3) ls rest)) : W p l e R s m args below meth c H locs cells slots Q (F0 m pc ls (v :: .ref a :: rest)) :=
  va_put h.x h.b h.t hin ty0 hty hnm h.o h.k hP hD hS q0 he hc k hk (h.t _ hq) hsame hfin (by rw [hty k hk, ht]) hn hfit hl d (by subst hw; exact kk)
theorem z_putn (h : zC p l s0 G s m args c own cc) (hP : va_P G.1 zCl ws H) (hD : va_D A ws) (hS : va_S A H0 H locs) (q0 : Nat) {a ci : Nat} {fs : List Value} {C : String} {T : u_T} {N k index : Nat} {ref host : String} {v : Value} {ty : FieldType} {ty0 : Nat → FieldType} {ws' : va_W} (he : ws[q0]? = some (a, zOb ci fs)) (hc : zCl[ci]? = some (C, T, N)) (hin : ∀ w ∈ u_ws C T N, w ∈ lw_all) (hty : ∀ k, k < N → parseFieldDescriptor (T k).2.2.1 = some (ty0 k)) (hnm : ∀ a, a < N → ∀ b, b < N → a ≠ b → (T a).2.1 ≠ (T b).2.1) (hk : k < N) (hq : Cond.fieldLinkNest own index ref (T k).2.1 (T k).2.2.1 host ∈ lw_tbl) (hsame : ∀ x, s.fieldFound? (T k).1 (T k).2.1 (T k).2.2.1 = some x → s.fieldFound? ref (T k).2.1 (T k).2.2.1 = some x) (hfin : (T k).2.2.2 = false) (ht : ty0 k = ty) (hn : narrow ty v = v) (hfit : fits ty v = true) (hl : k < fs.length) (hw : ws.set q0 (a, zOb ci (fs.set k v)) = ws') (d : decode cc pc = .ok (.putfield index, 3))
    (kk : ∀ (H1 : Heap) (locs1 : List Loc), va_P G.1 zCl ws' H1 → va_D A ws' → va_S A H0 H1 locs1 → W p l e R s m args below meth c H1 locs1 cells slots Q (F0 m (pc + 3) ls rest)) : W p l e R s m args below meth c H locs cells slots Q (F0 m pc ls (v :: .ref a :: rest)) :=
  va_putN h.x h.b h.t hin ty0 hty hnm h.o h.k hP hD hS q0 he hc k hk (z_nf h hq) hsame hfin (by rw [hty k hk, ht]) hn hfit hl d (by subst hw; exact kk)
theorem z_putF (h : zC p l s0 G s m args c own cc) (hin2 : meth.name = "<init>") (hP : va_P G.1 zCl ws H) (hD : va_D A ws) (hS : va_S A H0 H locs) (q0 : Nat) {a ci : Nat} {fs : List Value} {C : String} {T : u_T} {N k index : Nat} {ref : String} {v : Value} {ty : FieldType} {ty0 : Nat → FieldType} {ws' : va_W} (he : ws[q0]? = some (a, zOb ci fs)) (hc : zCl[ci]? = some (C, T, N)) (hin : ∀ w ∈ u_ws C T N, w ∈ lw_all) (hty : ∀ k, k < N → parseFieldDescriptor (T k).2.2.1 = some (ty0 k)) (hnm : ∀ a, a < N → ∀ b, b < N → a ≠ b → (T a).2.1 ≠ (T b).2.1) (hk : k < N) (hq : Cond.fieldLink own index ref (T k).2.1 (T k).2.2.1 ∈ lw_all) (hsame : ∀ x, s.fieldFound? (T k).1 (T k).2.1 (T k).2.2.1 = some x → s.fieldFound? ref (T k).2.1 (T k).2.2.1 = some x) (hfin : (T k).2.2.2 = true) (hdecl : (T k).1 = own) (ht : ty0 k = ty) (hn : narrow ty v = v) (hfit : fits ty v = true) (hl : k < fs.length) (hw : ws.set q0 (a, zOb ci (fs.set k v)) = ws') (d : decode cc pc = .ok (.putfield index, 3))
    (kk : ∀ (H1 : Heap) (locs1 : List Loc), va_P G.1 zCl ws' H1 → va_D A ws' → va_S A H0 H1 locs1 → W p l e R s m args below meth c H1 locs1 cells slots Q (F0 m (pc + 3) ls rest)) : W p l e R s m args below meth c H locs cells slots Q (F0 m pc ls (v :: .ref a :: rest)) :=
  va_putF h.x h.b h.t hin ty0 hty hnm h.o h.k hP hD hS q0 he hc k hk (h.t _ hq) hsame hfin hin2 hdecl (by rw [hty k hk, ht]) hn hfit hl d (by subst hw; exact kk)
/-! arrays -/
theorem zI_upd (v : Nat → Int) (k : Nat) (y : Int) : upd (fun j => iI (v j)) k (iI y) = fun j => iI (va_up v k y j) := by
  funext j
  by_cases hj : j = k
  · subst hj; simp [upd, va_up]
  · simp [upd, va_up, hj]
theorem z_iald (h : zC p l s0 G s m args c own cc) {a n k : Nat} {v : Nat → Int} {x y : Int} (ha : zAt G a (zI G n v) H) (hx : x = (k : Int)) (hk : k < n ∧ n < 2147483648) (hy : v k = y) (d : decode cc pc = .ok (.iaload, 1))
    (kk : W p l e R s m args below meth c H locs cells slots Q (F0 m (pc + 1) ls (.int (iI y) :: rest))) : W p l e R s m args below meth c H locs cells slots Q (F0 m pc ls (.int (iI x) :: .ref a :: rest)) := by
  subst hx
  refine va_iald h.x h.b h.k (zP1 ha) 0 0 rfl rfl (iI_in hk.1 hk.2) d ?_
  rw [iI_cl (Nat.lt_trans hk.1 hk.2)]
  show W p l e R s m args below meth c H locs cells slots Q (F0 m (pc + 1) ls (.int (iI (v k)) :: rest))
  rw [hy]; exact kk
theorem z_iast (h : zC p l s0 G s m args c own cc) (hP : va_P G.1 zCl ws H) (hD : va_D A ws) (hS : va_S A H0 H locs) (q0 : Nat) {a n k : Nat} {v : Nat → Int} {x y : Int} {ws' : va_W} (ha : ws[q0]? = some (a, zI G n v)) (hx : x = (k : Int)) (hk : k < n ∧ n < 2147483648) (hw : ws.set q0 (a, zI G n (va_up v k y)) = ws') (d : decode cc pc = .ok (.iastore, 1))
    (kk : ∀ (H1 : Heap) (locs1 : List Loc), va_P G.1 zCl ws' H1 → va_D A ws' → va_S A H0 H1 locs1 → W p l e R s m args below meth c H1 locs1 cells slots Q (F0 m (pc + 1) ls rest)) : W p l e R s m args below meth c H locs cells slots Q (F0 m pc ls (.int (iI y) :: .int (iI x) :: .ref a :: rest)) := by
  subst hx
  refine va_iast h.x h.b h.k hP hD hS q0 0 ha rfl (iI_in hk.1 hk.2) d ?_
  rw [iI_cl (Nat.lt_trans hk.1 hk.2), zI_upd]
  subst hw
  exact kk
theorem z_alen (h : zC p l s0 G s m args c own cc) {a : Nat} {cA : Nat} {x : vp_A} {ty : FieldType} {y : Int} (t0 : Nat) (ha : zAt G a (.inl (cA, x)) H) (ht : (zTy G)[t0]? = some (cA, ty)) (hy : (x.1 : Int) = y) (d : decode cc pc = .ok (.arraylength, 1))
    (kk : W p l e R s m args below meth c H locs cells slots Q (F0 m (pc + 1) ls (.int (iI y) :: rest))) : W p l e R s m args below meth c H locs cells slots Q (F0 m pc ls (.ref a :: rest)) :=
  va_alen h.x h.b h.k (zP1 ha) 0 t0 rfl ht (by rw [← hy]; exact (iI_nat _).symm) d kk
theorem z_aald (h : zC p l s0 G s m args c own cc) {a n k : Nat} {f : Nat → Option Nat} {x : Int} {q : Nat} (ha : zAt G a (zII G n f) H) (hx : x = (k : Int)) (hk : k < n ∧ n < 2147483648) (hq : f k = some q) (d : decode cc pc = .ok (.aaload, 1))
    (kk : W p l e R s m args below meth c H locs cells slots Q (F0 m (pc + 1) ls (.ref q :: rest))) : W p l e R s m args below meth c H locs cells slots Q (F0 m pc ls (.int (iI x) :: .ref a :: rest)) := by
  subst hx
  have h1 : H[a]? = some (vp_cell (G.2 4) (n, .inr (.inr (.inr (.inr f))))) := ha
  rw [vp_cell_q] at h1
  refine W.aald (v := .ref q) (ty := .array .int) h.x h.b h1 ((h.k.2 4 _ rfl).1 n (fun j => va_rf (f j))) rfl (fun z => by cases z) (by rw [arrV_size]; exact iI_in hk.1 hk.2) ?_ rfl rfl d kk
  rw [iI_cl (Nat.lt_trans hk.1 hk.2), arrV_read _ _ hk.1, hq]; rfl
theorem z_aaldR (h : zC p l s0 G s m args c own cc) {a n k : Nat} {f : Nat → Option Nat} {x : Int} {q : Nat} (ha : zAt G a (zR G n f) H) (hx : x = (k : Int)) (hk : k < n ∧ n < 2147483648) (hq : f k = some q) (d : decode cc pc = .ok (.aaload, 1))
    (kk : W p l e R s m args below meth c H locs cells slots Q (F0 m (pc + 1) ls (.ref q :: rest))) : W p l e R s m args below meth c H locs cells slots Q (F0 m pc ls (.int (iI x) :: .ref a :: rest)) := by
  subst hx
  have h1 : H[a]? = some (vp_cell (G.2 3) (n, .inr (.inr (.inr (.inr f))))) := ha
  rw [vp_cell_q] at h1
  refine W.aald (v := .ref q) (ty := .object "java/lang/Object") h.x h.b h1 ((h.k.2 3 _ rfl).1 n (fun j => va_rf (f j))) rfl (fun z => by cases z) (by rw [arrV_size]; exact iI_in hk.1 hk.2) ?_ rfl rfl d kk
  rw [iI_cl (Nat.lt_trans hk.1 hk.2), arrV_read _ _ hk.1, hq]; rfl
theorem zC.int (h : zC p l s0 G s m args c own cc) {cA : Nat} (hf : s.vm.findClass "[I" = some cA) : cA = G.2 0 := by
  have h1 : s.vm.findClass "[I" = some (G.2 0) := (h.k.2 0 _ rfl).2
  exact Option.some.inj (hf.symm.trans h1)
theorem zC.lng (h : zC p l s0 G s m args c own cc) {cA : Nat} (hf : s.vm.findClass "[J" = some cA) : cA = G.2 1 := by
  have h1 : s.vm.findClass "[J" = some (G.2 1) := (h.k.2 1 _ rfl).2
  exact Option.some.inj (hf.symm.trans h1)
theorem zC.byt (h : zC p l s0 G s m args c own cc) {cA : Nat} (hf : s.vm.findClass "[B" = some cA) : cA = G.2 2 := by
  have h1 : s.vm.findClass "[B" = some (G.2 2) := (h.k.2 2 _ rfl).2
  exact Option.some.inj (hf.symm.trans h1)
/-- a fresh cell beside a world -/
theorem z_push {q : Nat} {en : va_E} {H1 : Heap} (hP : va_P G.1 zCl ws H) (hD : va_D (zA M H0) ws) (hS : va_S (zA M H0) H0 H locs) (hq : q = H.size) (he : zAt G q en H1) (hz : H.size ≤ H1.size) (hk : ∀ x, x < H.size → H1[x]? = H[x]?) : va_P G.1 zCl (ws ++ [(q, en)]) H1 ∧ va_D (zA M H0) (ws ++ [(q, en)]) ∧ va_S (zA M H0) H0 H1 locs := by
  refine ⟨(hP.kept (fun k x hx => hk x.1 (hP k x hx).lt)).app (zP1 he), hD.push hP hq (Or.inr (by rw [hq]; exact hS.1)), ⟨Nat.le_trans hS.1 hz, fun x a b => (hk x (Nat.lt_of_lt_of_le a hS.1)).trans (hS.2.1 x a b), hS.2.2⟩⟩
theorem z_newi (h : zC p l s0 G s m args c own cc) (hP : va_P G.1 zCl ws H) (hD : va_D (zA M H0) ws) (hS : va_S (zA M H0) H0 H locs) {N : Nat} {x : Int} {c1 s1 : Nat} {ws' : Nat → va_W} (hx : x = (N : Int)) (hN : N ≤ 134217728) (hc : cells + 1 ≤ R.cells ∧ slots + N ≤ R.slots) (h1 : cells + 1 ≤ c1 ∧ slots + N ≤ s1) (hw : ∀ q, ws ++ [(q, zI G N (fun _ => 0))] = ws' q) (d : decode cc pc = .ok (.newarray .int, 2))
    (kk : ∀ (q : Nat) (H1 : Heap), H0.size ≤ q → H.size ≤ q → va_P G.1 zCl (ws' q) H1 → va_D (zA M H0) (ws' q) → va_S (zA M H0) H0 H1 locs → zF M0 H H1 → W p l e R s m args below meth c H1 locs c1 s1 Q (F0 m (pc + 2) ls (.ref q :: rest))) : W p l e R s m args below meth c H locs cells slots Q (F0 m pc ls (.int (iI x) :: rest)) := by
  subst hx
  have hN2 : N < 2147483648 := by omega
  refine va_newaK (atype := .int) (n := iI (N : Int)) (N := N) h.x h.b (h.t _ q333) rfl d rfl (fun z => by rw [iI_l0 ⟨by omega, by omega⟩] at z; omega) (iI_cl hN2) (show N * 4 ≤ _ by omega) hc.1 hc.2 rfl (fun H1 cA e1 z1 o1 _ hf => ?_)
  have hcA : cA = G.2 0 := h.int hf
  subst hcA
  have he : zAt G H.size (zI G N (fun _ => 0)) H1 := by
    show H1[H.size]? = some (vp_cell (G.2 0) (N, .inl (fun _ => iI 0)))
    rw [e1, vp_cell_i, iI_0]; rfl
  obtain ⟨a1, a2, a3⟩ := z_push (M := M) hP hD hS rfl he (by omega) o1
  rw [hw] at a1 a2
  exact W.widen h1.1 h1.2 (kk H.size H1 hS.1 (Nat.le_refl _) a1 a2 a3 ⟨by omega, fun q hq _ => o1 q hq⟩)
theorem z_new (h : zC p l s0 G s m args c own cc) (hP : va_P G.1 zCl ws H) (hD : va_D (zA M H0) ws) (hS : va_S (zA M H0) H0 H locs) {C : String} {T : u_T} {N ci index : Nat} {fs : List Value} {ty : Nat → FieldType} {c1 s1 : Nat} {ws' : Nat → va_W} (hc0 : zCl[ci]? = some (C, T, N)) (hin : ∀ w ∈ u_ws C T N, w ∈ lw_all) (hty : ∀ k, k < N → parseFieldDescriptor (T k).2.2.1 = some (ty k)) (hcl : Cond.classLink own index C ∈ lw_all) (hinst : Cond.instantiable C N ∈ lw_all) (hini : Cond.initialized C ∈ lw_all) (hfs : ∀ j, j < N → defaultValue (ty j) = vp_V fs j) (hc : cells + 1 ≤ R.cells ∧ slots + N ≤ R.slots) (h1 : cells + 1 ≤ c1 ∧ slots + N ≤ s1) (hw : ∀ q, ws ++ [(q, zOb ci fs)] = ws' q) (d : decode cc pc = .ok (.new index, 3))
    (kk : ∀ (q : Nat) (H1 : Heap), H0.size ≤ q → H.size ≤ q → va_P G.1 zCl (ws' q) H1 → va_D (zA M H0) (ws' q) → va_S (zA M H0) H0 H1 locs → zF M0 H H1 → W p l e R s m args below meth c H1 locs c1 s1 Q (F0 m (pc + 3) ls (.ref q :: rest))) : W p l e R s m args below meth c H locs cells slots Q (F0 m pc ls rest) := by
  have hKn := h.k.1 ci _ hc0
  refine W.newcK h.x h.b h.o (h.t _ hcl) (h.t _ hinst) (h.t _ hini) rfl d hc.1 hc.2 hKn.2.1 rfl (fun H1 kC hkC e1 z1 o1 => ?_)
  have he : zAt G H.size (zOb ci fs) H1 := ⟨_, hc0, (u_born ty h.t hin hKn hkC e1 hty).to hfs⟩
  obtain ⟨a1, a2, a3⟩ := z_push (M := M) hP hD hS rfl he (by omega) o1
  rw [hw] at a1 a2
  exact W.widen h1.1 h1.2 (kk H.size H1 hS.1 (Nat.le_refl _) a1 a2 a3 ⟨by omega, fun q hq _ => o1 q hq⟩)
end ROWS
