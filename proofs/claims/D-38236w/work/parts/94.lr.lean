/-! THE LAW: rows; what holds between its calls -/
set_option maxRecDepth 100000
section LR
variable {p : Program} {l : Launch} {e : Env} {R : Room} {s : State} {m : MethodId} {args : Array Value} {below : List Frame} {meth : Method} {c : Code} {H : Heap} {locs : List Loc} {cells slots : Nat} {Q : State → Prop}
variable {cc : ByteArray} {pc : Nat} {ls : Array Slot} {rest : List Value} {s0 : State} {G : zG} {own : String} {A : Nat → Prop} {H0 : Heap} {ws : va_W}
/-- an int of the script -/
theorem z_sld (h : zC p l s0 G s m args c own cc) {b L : Nat} {xs : Nat → Int32} (hX : va_X b L xs s H0) (hbl : b < H0.size) (hS : va_S (zA M0 H0) H0 H locs) {k : Nat} {x : Int} (hx : x = (k : Int)) (hk : k < L) (hL : L < 2147483648) (d : decode cc pc = .ok (.iaload, 1))
    (kk : W p l e R s m args below meth c H locs cells slots Q (F0 m (pc + 1) ls (.int (iI ((xs k).toInt)) :: rest))) : W p l e R s m args below meth c H locs cells slots Q (F0 m pc ls (.int (iI x) :: .ref b :: rest)) := by
  subst hx
  refine va_sld h.x h.b hX hbl (fun z => z.elim id (fun z => by omega)) hS (iI_in hk hL) d ?_
  rw [iI_cl (Nat.lt_trans hk hL)]
  rw [show iI ((xs k).toInt) = xs k from Int32.ofInt_toInt _] at kk
  exact kk
theorem z_slen (h : zC p l s0 G s m args c own cc) {b L : Nat} {xs : Nat → Int32} (hX : va_X b L xs s H0) (hbl : b < H0.size) (hS : va_S (zA M0 H0) H0 H locs) (d : decode cc pc = .ok (.arraylength, 1))
    (kk : W p l e R s m args below meth c H locs cells slots Q (F0 m (pc + 1) ls (.int (iI ((L : Nat) : Int)) :: rest))) : W p l e R s m args below meth c H locs cells slots Q (F0 m pc ls (.ref b :: rest)) := by
  refine va_slen h.x h.b hX hbl (fun z => z.elim id (fun z => by omega)) hS d ?_
  rw [iI_nat] at kk
  exact kk
/-- a long against itself -/
theorem z_lcq (hx : p.tables.exec = Jvm.exec) (hb : c.code = cc) {a b : Int64} (hab : a = b) (d : decode cc pc = .ok (.lcmp, 1)) (k : W p l e R s m args below meth c H locs cells slots Q (F0 m (pc + 1) ls (.int (iI 0) :: rest))) : W p l e R s m args below meth c H locs cells slots Q (F0 m pc ls (.long b :: .long a :: rest)) := by
  subst hab
  refine W.lcmp hx hb d ?_
  have h : lg_cmp a a = iI 0 := by unfold lg_cmp; simp [Int64.lt_irrefl]; rfl
  rw [h]; exact k
/-- putfield of a nest mate's private field, and no other cell changes -/
theorem z_putnO (h : zC p l s0 G s m args c own cc) (hP : va_P G.1 zCl ws H) (hD : va_D A ws) (hS : va_S A H0 H locs) (q0 : Nat) {a ci : Nat} {fs : List Value} {C : String} {T : u_T} {N k index : Nat} {ref host : String} {v : Value} {ty : FieldType} {ty0 : Nat → FieldType} {ws' : va_W} (he : ws[q0]? = some (a, zOb ci fs)) (hc : zCl[ci]? = some (C, T, N)) (hin : ∀ w ∈ u_ws C T N, w ∈ lw_all) (hty : ∀ k, k < N → parseFieldDescriptor (T k).2.2.1 = some (ty0 k)) (hnm : ∀ a, a < N → ∀ b, b < N → a ≠ b → (T a).2.1 ≠ (T b).2.1) (hk : k < N) (hq : Cond.fieldLinkNest own index ref (T k).2.1 (T k).2.2.1 host ∈ lw_tbl) (hsame : ∀ x, s.fieldFound? (T k).1 (T k).2.1 (T k).2.2.1 = some x → s.fieldFound? ref (T k).2.1 (T k).2.2.1 = some x) (hfin : (T k).2.2.2 = false) (ht : ty0 k = ty) (hn : narrow ty v = v) (hfit : fits ty v = true) (hl : k < fs.length) (hw : ws.set q0 (a, zOb ci (fs.set k v)) = ws') (d : decode cc pc = .ok (.putfield index, 3))
    (kk : ∀ (H1 : Heap) (locs1 : List Loc), va_P G.1 zCl ws' H1 → va_D A ws' → va_S A H0 H1 locs1 → zF (fun z => z = a) H H1 → W p l e R s m args below meth c H1 locs1 cells slots Q (F0 m (pc + 3) ls rest)) : W p l e R s m args below meth c H locs cells slots Q (F0 m pc ls (v :: .ref a :: rest)) := by
  have hap := va_apart (own := own) h.t hin ty0 hty hnm h.k hc
  obtain ⟨r, h1, cell, q1, q2, q3, q4⟩ := hP q0 _ he
  cases Option.some.inj (h1.symm.trans hc)
  obtain ⟨hF, hfc, kC, hkC, hkind⟩ := h.k.1 ci _ hc
  obtain ⟨cf, kf, fi, f, hi, hsl⟩ := hF k hk
  have hlay := h.t _ (hin _ (u_in_lay hk))
  unfold u_lay at hlay
  rw [if_neg (by rw [hfin]; decide)] at hlay
  have hst := (u_facts hfc hkC (u_lays h.t hin hk) hi).1
  have h6 := u_store hfc hkC hkind hlay hi (by rw [hty k hk, ht]) hn hfit
  refine va_WputK h.x h.b (f := f) h.o (z_nf h hq) (hsame _ hi) hst (by rw [q2]; exact h6) q1 q3 (by rw [hsl]; exact k2_hasslot (q4 k hk)) rfl rfl d fun H' e1 e2 e3 => ?_
  rw [hsl] at e1 ⊢
  subst hw
  exact kk H' _ (hP.set hD he ⟨_, hc, t_OB.to (V := updV (vp_V fs) k v) ⟨_, e1, q2, q3, t_set q4 hap hk v⟩ (fun j _ => vp_updV_set hl v j)⟩ e3) (hD.set he) (hS.put e2 e3 (hD.2 q0 _ he)) ⟨Nat.le_of_eq e2.symm, fun q _ hn => e3 q hn⟩
end LR
/-- the exceptions' classes: what is no subclass of what -/
def zNc (s : State) : Prop := va_Nc "java/lang/IllegalArgumentException" "java/lang/IndexOutOfBoundsException" s ∧ va_Nc "java/lang/IllegalStateException" "java/lang/IndexOutOfBoundsException" s ∧ va_Nc "java/lang/IllegalStateException" "java/lang/IllegalArgumentException" s
theorem zNc.warm {s U : State} (h : zNc s) (hW : s.WarmedH U.vm) : zNc U := ⟨h.1.moved hW.alike, h.2.1.moved hW.alike, h.2.2.moved hW.alike⟩
/-- the law's Out is written: the house stands -/
theorem PoC.out {l : Launch} {G : zG} {s0 : State} {H0 h1 h2 : Heap} {ρ : Ro → Nat} {σ σ' : St} {oa : Nat} (hE : zE l s0 G) (h : PoC G s0 H0 ρ σ σ' h1) (hoa : oa < H0.size) (hof : ¬ FC G ρ σ oa) (hF : zF (fun z => z = oa) h1 h2) : PoC G s0 H0 ρ σ σ' h2 := by
  obtain ⟨ρ', a, b, c⟩ := h
  refine ⟨ρ', a.ext hE hF (fun r hr h12 e => ?_), b, c⟩
  have e : ρ' r = oa := e
  rcases c _ ⟨h12, r, hr, rfl⟩ with z | z
  · rw [e] at z; exact hof z
  · omega
theorem zStr.ext {G : zG} {H0 h1 h2 : Heap} {M : Nat → Prop} {y : Nat} {L : List Int} (h : zStr G H0 y L h1) (hF : zF M h1 h2) (hM : ∀ z, M z → z < H0.size) : zStr G H0 y L h2 := by
  refine h.imp (fun ⟨b, h1, h2⟩ => ⟨b, fun i x hx => (h1 i x hx).kept (hF.2 _ (show va_at G.1 zCl x _ from h1 i x hx).lt (fun z => ?_)), h2⟩) id
  have := h2.2 i x hx
  have h9 := hM _ z
  have h8 : H0.size ≤ x.1 := this
  omega
/-- a call of the house: what stands behind it -/
theorem LI_cls {l : Launch} {G : zG} {s0 : State} {H H1 : Heap} {ρ μ : Ro → Nat} {σ σ1 : St} {th : Int} {oa : Nat} (hE : zE l s0 G) (hO : zO s0 H) (hm : HM G s0 μ σ th H) (hof : ¬ FC G ρ σ oa) (hom : ¬ FM G μ σ oa) (hol : oa < H.size) (hdj : ∀ z, FC G ρ σ z → ¬ FM G μ σ z) (hdm : zMn (ρ (5, 0, 0)) {} H) (hF : zF (fun z => FC G ρ σ z ∨ z = oa) H H1) (hmk : zMk H H1) (hp : PoC G s0 H ρ σ σ1 H1) :
    ∃ ρ1, HC G s0 ρ1 σ1 H1 ∧ ρ1 (0, 0, 0) = ρ (0, 0, 0) ∧ zMn (ρ1 (5, 0, 0)) {} H1 ∧ HM G s0 μ σ th H1 ∧ ¬ FC G ρ1 σ1 oa ∧ ∀ z, FC G ρ1 σ1 z → ¬ FM G μ σ z := by
  obtain ⟨ρ1, h1, ⟨e0, e5⟩, hg⟩ := hp
  refine ⟨ρ1, h1, e0, by rw [e5]; exact hdm.mk hmk, hm.ext hE hF (fun a ha h12 z => ?_), fun z => ?_, fun z hz hz2 => ?_⟩
  · have hf : FM G μ σ (μ a) := ⟨h12, a, ha, rfl⟩
    exact z.elim (fun z => hdj _ z hf) (fun z => hom (z ▸ hf))
  · exact (hg _ z).elim hof (fun z => by omega)
  · refine (hg _ hz).elim (fun z9 => hdj _ z9 hz2) (fun z9 => ?_)
    obtain ⟨-, a, ha, rfl⟩ := hz2
    have := hm.lt hE hO a ha
    omega
/-- a call of the model: what stands behind it -/
theorem LI_mdl {l : Launch} {G : zG} {s0 : State} {H H1 : Heap} {ρ μ : Ro → Nat} {σ σm σ2 : St} {th2 : Int} {oa : Nat} (hE : zE l s0 G) (hO : zO s0 H) (hh : HC G s0 ρ σ H) (hom : ¬ FM G μ σm oa) (hol : oa < H.size) (hdj : ∀ z, FC G ρ σ z → ¬ FM G μ σm z) (hdm : zMn (ρ (5, 0, 0)) {} H) (hF : zF (FM G μ σm) H H1) (hmk : zMk H H1) (hp : PoM G s0 H μ σm σ2 th2 H1) :
    ∃ μ1, HM G s0 μ1 σ2 th2 H1 ∧ μ1 (0, 0, 0) = μ (0, 0, 0) ∧ zMn (ρ (5, 0, 0)) {} H1 ∧ HC G s0 ρ σ H1 ∧ ¬ FM G μ1 σ2 oa ∧ ∀ z, FC G ρ σ z → ¬ FM G μ1 σ2 z := by
  obtain ⟨μ1, h1, e0, hg⟩ := hp
  refine ⟨μ1, h1, e0, hdm.mk hmk, hh.ext hE hF (fun a ha h12 z => ?_), fun z => ?_, fun z hz hz2 => ?_⟩
  · exact hdj _ ⟨h12, a, ha, rfl⟩ z
  · exact (hg _ z).elim hom (fun z => by omega)
  · refine (hg _ hz2).elim (fun z9 => hdj _ hz z9) (fun z9 => ?_)
    obtain ⟨-, a, ha, rfl⟩ := hz
    have := hh.lt hE hO a ha
    omega
