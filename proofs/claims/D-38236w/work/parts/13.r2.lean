/-! ROWS: statics, arrays of references, what stands at the start -/
set_option maxRecDepth 100000
theorem zZ {s0 s : State} {H : Heap} {C n d : String} {v : Value} (hW : s0.WarmedH s.vm) (ho : zO s0 H) (hZ : va_Z C n d v (zN s0) s0 s0.heap) : va_Z C n d v (zN s0) s H := (hZ.moved hW.alike).kept (fun a h _ => ho.2 a h)
theorem zT {s0 s : State} {H : Heap} {ty : FieldType} {t N : Nat} {f : Nat → Value} (hW : s0.WarmedH s.vm) (ho : zO s0 H) (hZ : va_T ty t N f (zN s0) s0 s0.heap) : va_T ty t N f (zN s0) s H := (hZ.moved hW.alike).kept (fun a h _ => ho.2 a h)
theorem zOo {s0 s : State} {H : Heap} {C : String} {t : Nat} (hW : s0.WarmedH s.vm) (ho : zO s0 H) (hZ : va_O C t (zN s0) s0 s0.heap) : va_O C t (zN s0) s H := (hZ.moved hW.alike).kept (fun a h _ => ho.2 a h)
theorem zOF {s0 s : State} {H : Heap} {o n d : String} {v : Value} {t : Nat} (hW : s0.WarmedH s.vm) (ho : zO s0 H) (hZ : va_OF o n d v t (zN s0) s0 s0.heap) : va_OF o n d v t (zN s0) s H := (hZ.moved hW.alike).kept (fun a h _ => ho.2 a h)
theorem zT.old {s0 : State} {ty : FieldType} {t N : Nat} {f : Nat → Value} (hZ : va_T ty t N f (zN s0) s0 s0.heap) : t < s0.heap.size := by
  obtain ⟨cell, h1, -⟩ := hZ
  exact (Array.getElem?_eq_some_iff.mp h1).1
theorem zO_old {s0 : State} {C : String} {t : Nat} (hZ : va_O C t (zN s0) s0 s0.heap) : t < s0.heap.size := by
  obtain ⟨cell, h1, -⟩ := hZ
  exact (Array.getElem?_eq_some_iff.mp h1).1
/-- a cell that a place for Objects takes -/
def zAny (s0 : State) (H : Heap) (a : Nat) : Prop := va_Any "java/lang/Object" s0 H a
theorem zAny.at {s0 s : State} {H : Heap} {a : Nat} (h : zAny s0 H a) (hW : s0.WarmedH s.vm) : va_Any "java/lang/Object" s H a := by
  obtain ⟨cell, h1, h2, ⟨kC, h3⟩, h4⟩ := h
  obtain ⟨k', hk', -⟩ := hW.alike.2.2 _ _ h3
  refine ⟨cell, h1, h2, ⟨k', hk'⟩, fun comp hc => ?_⟩
  rw [hW.alike.findClass] at hc
  rw [hW.alike.assignable]
  exact h4 comp hc
theorem zAny.ext {s0 : State} {M : Nat → Prop} {H H1 : Heap} {a : Nat} (h : zAny s0 H a) (hF : zF M H H1) (hM : ¬ M a) : zAny s0 H1 a := by
  obtain ⟨cell, h1, h2⟩ := h
  exact ⟨cell, by rw [hF.2 a (Array.getElem?_eq_some_iff.mp h1).1 hM]; exact h1, h2⟩
theorem zAny.of {l : Launch} {s0 : State} {G : zG} {H : Heap} {a ci : Nat} {fs : List Value} {r : vw_C} (hE : zE l s0 G) (hc : zCl[ci]? = some r) (ha : zAt G a (zOb ci fs) H) (hw : Cond.castable r.1 "java/lang/Object" ∈ lw_tbl) : zAny s0 H a := by
  obtain ⟨a0, ht⟩ := hE.1
  obtain ⟨c0, t0, f1, f2, f3⟩ := Cond.castable_spec (ht _ hw)
  refine va_rAny hE.2.1 (zP1 ha) (q0 := 0) rfl hc (fun comp c1 h1 h2 => ?_)
  cases Option.some.inj (h2.symm.trans f1)
  cases Option.some.inj (h1.symm.trans f2)
  exact f3
theorem zAny.int {l : Launch} {s0 : State} {G : zG} {H : Heap} {a n : Nat} {v : Nat → Int} (hE : zE l s0 G) (ha : zAt G a (zI G n v) H) (hw : Cond.castable "[I" "java/lang/Object" ∈ lw_tbl) : zAny s0 H a := by
  obtain ⟨a0, ht⟩ := hE.1
  obtain ⟨c0, t0, f1, f2, f3⟩ := Cond.castable_spec (ht _ hw)
  have hI : s0.vm.findClass "[I" = some (G.2 0) := (hE.2.1.2 0 _ rfl).2
  have h1 : H[a]? = some (vp_cell (G.2 0) (n, .inl (fun j => iI (v j)))) := ha
  rw [vp_cell_i] at h1
  cases Option.some.inj (f1.symm.trans hI)
  obtain ⟨kC, hkC, -⟩ := Vm.findClass_spec hI
  exact ⟨_, h1, rfl, ⟨kC, hkC⟩, fun comp hc => by cases Option.some.inj (hc.symm.trans f2); exact f3⟩
section R2
variable {p : Program} {l : Launch} {e : Env} {R : Room} {s : State} {m : MethodId} {args : Array Value} {below : List Frame} {meth : Method} {c : Code} {H : Heap} {locs : List Loc} {cells slots : Nat} {Q : State → Prop}
variable {cc : ByteArray} {pc : Nat} {ls : Array Slot} {rest : List Value} {s0 : State} {G : zG} {own : String} {A : Nat → Prop} {H0 : Heap} {ws : va_W} {M : Nat → Prop}
theorem z_gets (h : zC p l s0 G s m args c own cc) (ho : zO s0 H) {C n d : String} {v : Value} {index : Nat} (hZ : va_Z C n d v (zN s0) s0 s0.heap) (hq : Cond.fieldLink own index C n d ∈ lw_all) (dd : decode cc pc = .ok (.getstatic index, 3)) (kk : W p l e R s m args below meth c H locs cells slots Q (F0 m (pc + 3) ls (v :: rest))) : W p l e R s m args below meth c H locs cells slots Q (F0 m pc ls rest) := by
  obtain ⟨cf, kf, fi, f, a, cell, h1, h2, h3, h4, h5, h6, h7, h8⟩ := zZ h.w ho hZ
  exact W.gets h.x h.b h.o (h.t _ hq) h1 h2 h3 h4 h5 (fun e => by rw [e] at h6; cases h6) h7 rfl dd kk
theorem z_tlen (h : zC p l s0 G s m args c own cc) (ho : zO s0 H) {ty : FieldType} {t N : Nat} {f : Nat → Value} {y : Int} (hT : va_T ty t N f (zN s0) s0 s0.heap) (hy : (N : Int) = y) (d : decode cc pc = .ok (.arraylength, 1)) (kk : W p l e R s m args below meth c H locs cells slots Q (F0 m (pc + 1) ls (.int (iI y) :: rest))) : W p l e R s m args below meth c H locs cells slots Q (F0 m pc ls (.ref t :: rest)) := by
  subst hy
  obtain ⟨cell, h1, h2, h3, h4, h5, h6, h7⟩ := zT h.w ho hT
  exact W.alen (n := iI (N : Int)) h.x h.b h1 h2 (by rw [h5]; exact (iI_nat N).symm) rfl rfl d kk
theorem z_taald (h : zC p l s0 G s m args c own cc) (ho : zO s0 H) {C : String} {t N k q : Nat} {f : Nat → Value} {x : Int} (hT : va_T (.object C) t N f (zN s0) s0 s0.heap) (hx : x = (k : Int)) (hk : k < N ∧ N < 2147483648) (hq : f k = .ref q) (d : decode cc pc = .ok (.aaload, 1)) (kk : W p l e R s m args below meth c H locs cells slots Q (F0 m (pc + 1) ls (.ref q :: rest))) : W p l e R s m args below meth c H locs cells slots Q (F0 m pc ls (.int (iI x) :: .ref t :: rest)) := by
  subst hx
  obtain ⟨cell, h1, h2, h3, h4, h5, h6, h7⟩ := zT h.w ho hT
  refine W.aald (v := .ref q) (ty := .object C) h.x h.b h1 h2 rfl h3 ?_ ?_ rfl rfl d kk
  · rw [iI_cl (Nat.lt_trans hk.1 hk.2), iI_l0 ⟨by omega, by omega⟩]; omega
  · rw [iI_cl (Nat.lt_trans hk.1 hk.2), h6 k hk.1, hq]
/-- new Object[N] -/
theorem z_newR (h : zC p l s0 G s m args c own cc) (hP : va_P G.1 zCl ws H) (hD : va_D (zA M H0) ws) (hS : va_S (zA M H0) H0 H locs) {N index : Nat} {x : Int} {c1 s1 : Nat} {ws' : Nat → va_W} (hcl : Cond.classLink own index "java/lang/Object" ∈ lw_all) (hx : x = (N : Int)) (hN : N ≤ 134217728) (hc : cells + 1 ≤ R.cells ∧ slots + N ≤ R.slots) (h1 : cells + 1 ≤ c1 ∧ slots + N ≤ s1) (hw : ∀ q, ws ++ [(q, zR G N (fun _ => none))] = ws' q) (d : decode cc pc = .ok (.anewarray index, 3))
    (kk : ∀ (q : Nat) (H1 : Heap), H0.size ≤ q → H.size ≤ q → va_P G.1 zCl (ws' q) H1 → va_D (zA M H0) (ws' q) → va_S (zA M H0) H0 H1 locs → zF M0 H H1 → W p l e R s m args below meth c H1 locs c1 s1 Q (F0 m (pc + 3) ls (.ref q :: rest))) : W p l e R s m args below meth c H locs cells slots Q (F0 m pc ls (.int (iI x) :: rest)) := by
  subst hx
  have hN2 : N < 2147483648 := by omega
  obtain ⟨a0, ht⟩ := h.e.1
  have hov : va_AO "java/lang/Object" s := va_AO.moved h.w.alike (va_AO.of (ht _ q1026))
  refine W.anew (n := iI (N : Int)) h.x h.b h.o (h.t _ hcl) (va_AO.use hov) rfl d rfl (fun z => by rw [iI_l0 ⟨by omega, by omega⟩] at z; omega) (by rw [iI_cl hN2]; omega) hc.1 (by rw [iI_cl hN2]; exact hc.2) (fun cA kA comp f1 f2 f3 f4 => ?_)
  rw [iI_cl hN2]
  have hcA : cA = G.2 3 := by
    obtain ⟨kB, compB, g1, g2, g3, g4⟩ := (h.k.2 3 _ rfl).2
    exact Option.some.inj (f1.symm.trans g4)
  subst hcA
  generalize hH1 : H.push ({ cls := G.2 3, slots := Array.replicate N .null, vm := .none } : Cell) = H1
  have z1 : H1.size = H.size + 1 := by rw [← hH1, Array.size_push]
  have e1 : H1[H.size]? = some (arrV (G.2 3) N (fun _ => .null)) := by rw [← hH1, Array.getElem?_push_size, ← arrV_new]
  have o1 : ∀ q : Nat, q < H.size → H1[q]? = H[q]? := fun q hq => by rw [← hH1, Array.getElem?_push, if_neg (Nat.ne_of_lt hq)]
  have he : zAt G H.size (zR G N (fun _ => none)) H1 := by
    show H1[H.size]? = some (vp_cell (G.2 3) (N, .inr (.inr (.inr (.inr (fun _ => none))))))
    rw [e1, vp_cell_q]; rfl
  obtain ⟨a1, a2, a3⟩ := z_push (M := M) hP hD hS rfl he (by omega) o1
  rw [hw] at a1 a2
  exact W.widen h1.1 h1.2 (kk H.size H1 hS.1 (Nat.le_refl _) a1 a2 a3 ⟨by omega, fun q hq _ => o1 q hq⟩)
theorem z_aastR (h : zC p l s0 G s m args c own cc) (hP : va_P G.1 zCl ws H) (hD : va_D A ws) (hS : va_S A H0 H locs) (q0 : Nat) {a n k q : Nat} {f : Nat → Option Nat} {x : Int} {ws' : va_W} (ha : ws[q0]? = some (a, zR G n f)) (hy : zAny s0 H q) (hx : x = (k : Int)) (hk : k < n ∧ n < 2147483648) (hw : ws.set q0 (a, zR G n (va_up f k (some q))) = ws') (d : decode cc pc = .ok (.aastore, 1))
    (kk : ∀ (H1 : Heap) (locs1 : List Loc), va_P G.1 zCl ws' H1 → va_D A ws' → va_S A H0 H1 locs1 → H1.size = H.size → (∀ z : Nat, z ≠ a → H1[z]? = H[z]?) → W p l e R s m args below meth c H1 locs1 cells slots Q (F0 m (pc + 1) ls rest)) : W p l e R s m args below meth c H locs cells slots Q (F0 m pc ls (.ref q :: .int (iI x) :: .ref a :: rest)) := by
  subst hx
  obtain ⟨cellV, g1, g2, ⟨kV, g3⟩, g4⟩ := hy.at h.w
  obtain ⟨kA, comp, k1, k2, k3, -⟩ := (h.k.2 3 _ rfl).2
  obtain ⟨kC, hkC, -⟩ := Vm.findClass_spec k3
  have h1 : H[a]? = some (arrV (G.2 3) n (fun j => va_rf (f j))) := by
    have := hP q0 _ ha
    have h2 : H[a]? = some (vp_cell (G.2 3) (n, .inr (.inr (.inr (.inr f))))) := this
    rw [vp_cell_q] at h2; exact h2
  refine W.aast h.x h.b h1 (fun q h => by cases h) (fun h => by cases h) k1 k2 rfl hkC ⟨by rw [iI_l0 ⟨by omega, by omega⟩]; omega, by rw [arrV_size, iI_cl (Nat.lt_trans hk.1 hk.2)]; exact hk.1⟩ g1 (fun q h => by rw [h] at g2; cases g2) g3 (g4 comp k3) rfl rfl d (fun H1 e1 z1 o1 => ?_)
  rw [iI_cl (Nat.lt_trans hk.1 hk.2)] at e1 ⊢
  have he : zAt G a (zR G n (va_up f k (some q))) H1 := by
    show H1[a]? = some (vp_cell (G.2 3) (n, .inr (.inr (.inr (.inr (va_up f k (some q)))))))
    rw [e1, vp_cell_q, arrV_store]
    congr 2
    funext j
    by_cases hj : j = k
    · subst hj; simp [updV, va_up, va_rf]
    · simp [updV, va_up, hj]
  subst hw
  exact kk H1 _ (hP.set hD ha he o1) (hD.set ha) (hS.put z1 o1 (hD.2 q0 _ ha)) z1 o1
theorem z_aastRN (h : zC p l s0 G s m args c own cc) (hP : va_P G.1 zCl ws H) (hD : va_D A ws) (hS : va_S A H0 H locs) (q0 : Nat) {a n k : Nat} {f : Nat → Option Nat} {x : Int} {ws' : va_W} (ha : ws[q0]? = some (a, zR G n f)) (hx : x = (k : Int)) (hk : k < n ∧ n < 2147483648) (hw : ws.set q0 (a, zR G n (va_up f k none)) = ws') (d : decode cc pc = .ok (.aastore, 1))
    (kk : ∀ (H1 : Heap) (locs1 : List Loc), va_P G.1 zCl ws' H1 → va_D A ws' → va_S A H0 H1 locs1 → W p l e R s m args below meth c H1 locs1 cells slots Q (F0 m (pc + 1) ls rest)) : W p l e R s m args below meth c H locs cells slots Q (F0 m pc ls (.null :: .int (iI x) :: .ref a :: rest)) := by
  subst hx
  refine va_astqN h.x h.b h.k hP hD hS q0 3 ha rfl (iI_in hk.1 hk.2) d ?_
  rw [iI_cl (Nat.lt_trans hk.1 hk.2)]
  subst hw
  exact kk
end R2
theorem zD1 {A : Nat → Prop} {a : Nat} {e : va_E} (h : A a) : va_D A [(a, e)] := by
  refine ⟨fun i j x y hi hj _ => ?_, fun k q hk => ?_⟩
  · have := (List.getElem?_eq_some_iff.mp hi).1; have := (List.getElem?_eq_some_iff.mp hj).1; simp at *; omega
  · cases k with
    | zero => cases hk; exact h
    | succ k => cases hk
theorem zD2 {A : Nat → Prop} {a b : Nat} {e f : va_E} (h : A a) (h2 : A b) (hab : a ≠ b) : va_D A [(a, e), (b, f)] := by
  refine ⟨fun i j x y hi hj z => ?_, fun k q hk => ?_⟩
  · have h1 := (List.getElem?_eq_some_iff.mp hi).1
    have h2 := (List.getElem?_eq_some_iff.mp hj).1
    simp at h1 h2
    rcases (show i = 0 ∨ i = 1 by omega) with rfl | rfl <;> rcases (show j = 0 ∨ j = 1 by omega) with rfl | rfl
    · rfl
    · cases hi; cases hj; exact absurd z hab
    · cases hi; cases hj; exact absurd z.symm hab
    · rfl
  · have h1 := (List.getElem?_eq_some_iff.mp hk).1
    simp at h1
    rcases (show k = 0 ∨ k = 1 by omega) with rfl | rfl <;> cases hk
    · exact h
    · exact h2
theorem zP2 {G : zG} {a b : Nat} {e f : va_E} {H : Heap} (h : zAt G a e H) (h2 : zAt G b f H) : va_P G.1 zCl [(a, e), (b, f)] H := (zP1 h).app (zP1 h2)
/-- an object is no array -/
theorem z_noArr {G : zG} {l : Launch} {s0 : State} {a b ci n t : Nat} {fs : List Value} {x : vp_A} {H : Heap} {r : vw_C} {ty : FieldType} (hE : zE l s0 G) (hc : zCl[ci]? = some r) (h : zAt G a (zOb ci fs) H) (ht : (zTy G)[t]? = some (n, ty)) (h2 : zAt G b (.inl (n, x)) H) : a ≠ b := by
  rintro rfl
  obtain ⟨r', h1, cell, g1, g2, g3, -⟩ := h
  have hr : r' = r := Option.some.inj (h1.symm.trans hc)
  subst hr
  have h4 : H[a]? = some (vp_cell n x) := h2
  have h5 : cell = vp_cell n x := Option.some.inj (g1.symm.trans h4)
  have hk := (hE.2.1.1 ci _ hc).2
  obtain ⟨hf, kC, hkC, hord⟩ := hk
  have harr := (hE.2.1.2 t _ ht).1 0 (fun _ => .null)
  obtain ⟨-, k, hk2, comp, hkind⟩ := harr
  have hcls : n = G.1.1 ci := by
    rw [← g2, h5]
    obtain ⟨len, f | f | f | f | f⟩ := x <;> rfl
  rw [← hcls] at hkC
  have h6 : (arrV n 0 (fun _ => Value.null)).cls = n := rfl
  rw [h6, hkC] at hk2
  cases hk2
  rw [hord] at hkind
  cases hkind
/-- objects of two classes are two -/
theorem z_noCls {G : zG} {l : Launch} {s0 : State} {a b ci cj : Nat} {fs gs : List Value} {H : Heap} {r q : vw_C} (hE : zE l s0 G) (hc : zCl[ci]? = some r) (hd : zCl[cj]? = some q) (hn : r.1 ≠ q.1) (h : zAt G a (zOb ci fs) H) (h2 : zAt G b (zOb cj gs) H) : a ≠ b := by
  rintro rfl
  obtain ⟨r1, h1, cell, g1, g2, -⟩ := h
  obtain ⟨r2, h3, cell2, k1, k2, -⟩ := h2
  cases Option.some.inj (g1.symm.trans k1)
  obtain ⟨k5, e5, f5⟩ := Vm.findClass_spec (hE.2.1.1 ci _ hc).2.1
  obtain ⟨k6, e6, f6⟩ := Vm.findClass_spec (hE.2.1.1 cj _ hd).2.1
  have e7 : G.1.1 ci = G.1.1 cj := g2.symm.trans k2
  rw [e7, e6] at e5
  cases e5
  exact hn (f5.symm.trans f6)
