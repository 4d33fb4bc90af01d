/-! ROWS: bytes -/
set_option maxRecDepth 100000
theorem by_fit : ∀ k : Nat, k < 128 → fits .byte (.int (iI (k : Int))) = true := by decide +kernel
theorem by_nar : ∀ k : Nat, k < 128 → vp_nar .byte (iI (k : Int)) = iI (k : Int) := by decide +kernel
theorem by_i2b : ∀ k : Nat, k < 128 → (iI (k : Int)).toInt8.toInt32 = iI (k : Int) := by decide +kernel
section BY
variable {p : Program} {l : Launch} {e : Env} {R : Room} {s : State} {m : MethodId} {args : Array Value} {below : List Frame} {meth : Method} {c : Code} {H : Heap} {locs : List Loc} {cells slots : Nat} {Q : State → Prop}
variable {cc : ByteArray} {pc : Nat} {ls : Array Slot} {rest : List Value} {s0 : State} {G : zG} {own : String} {A : Nat → Prop} {H0 : Heap} {ws : va_W} {M : Nat → Prop}
theorem z_bald (h : zC p l s0 G s m args c own cc) {a n k : Nat} {v : Nat → Int} {x : Int} {y : Int} (ha : zAt G a (zB G n v) H) (hx : x = (k : Int)) (hk : k < n ∧ n < 2147483648) (hy : v k = y) (d : decode cc pc = .ok (.baload, 1)) (kk : W p l e R s m args below meth c H locs cells slots Q (F0 m (pc + 1) ls (.int (iI y) :: rest))) : W p l e R s m args below meth c H locs cells slots Q (F0 m pc ls (.int (iI x) :: .ref a :: rest)) := by
  subst hx
  subst hy
  refine va_bald h.x h.b h.k (zP1 ha) 0 2 rfl rfl (iI_in hk.1 hk.2) d ?_
  rw [iI_cl (Nat.lt_trans hk.1 hk.2)]
  exact kk
theorem z_bast (h : zC p l s0 G s m args c own cc) (hP : va_P G.1 zCl ws H) (hD : va_D A ws) (hS : va_S A H0 H locs) (q0 : Nat) {a n k : Nat} {v : Nat → Int} {x y : Int} {ws' : va_W} (ha : ws[q0]? = some (a, zB G n v)) (hx : x = (k : Int)) (hk : k < n ∧ n < 2147483648) (hy : 0 ≤ y ∧ y < 128) (hw : ws.set q0 (a, zB G n (va_up v k y)) = ws') (d : decode cc pc = .ok (.bastore, 1))
    (kk : ∀ (H1 : Heap) (locs1 : List Loc), va_P G.1 zCl ws' H1 → va_D A ws' → va_S A H0 H1 locs1 → W p l e R s m args below meth c H1 locs1 cells slots Q (F0 m (pc + 1) ls rest)) : W p l e R s m args below meth c H locs cells slots Q (F0 m pc ls (.int (iI y) :: .int (iI x) :: .ref a :: rest)) := by
  subst hx
  refine va_bast h.x h.b h.k hP hD hS q0 2 ha rfl (iI_in hk.1 hk.2) d ?_
  have e1 : vp_nar .byte (iI y) = iI y := by
    have := by_nar y.toNat (by omega)
    rwa [show ((y.toNat : Nat) : Int) = y by omega] at this
  rw [iI_cl (Nat.lt_trans hk.1 hk.2), e1, zI_upd]
  subst hw
  exact kk
theorem z_i2b (hx : p.tables.exec = Jvm.exec) (hb : c.code = cc) {y : Int} (d : decode cc pc = .ok (.i2b, 1)) (hy : 0 ≤ y ∧ y < 128) (k : W p l e R s m args below meth c H locs cells slots Q (F0 m (pc + 1) ls (.int (iI y) :: rest))) : W p l e R s m args below meth c H locs cells slots Q (F0 m pc ls (.int (iI y) :: rest)) :=
  lv_i2b hx hb d (by
    have := by_i2b y.toNat (by omega)
    rwa [show ((y.toNat : Nat) : Int) = y by omega] at this) k
theorem z_newb (h : zC p l s0 G s m args c own cc) (hP : va_P G.1 zCl ws H) (hD : va_D (zA M H0) ws) (hS : va_S (zA M H0) H0 H locs) {N : Nat} {x : Int} {c1 s1 : Nat} {ws' : Nat → va_W} (hx : x = (N : Int)) (hN : N ≤ 100000) (hc : cells + 1 ≤ R.cells ∧ slots + N ≤ R.slots) (h1 : cells + 1 ≤ c1 ∧ slots + N ≤ s1) (hw : ∀ q, ws ++ [(q, zB G N (fun _ => 0))] = ws' q) (d : decode cc pc = .ok (.newarray .byte, 2))
    (kk : ∀ (q : Nat) (H1 : Heap), H0.size ≤ q → H.size ≤ q → va_P G.1 zCl (ws' q) H1 → va_D (zA M H0) (ws' q) → va_S (zA M H0) H0 H1 locs → zF M0 H H1 → W p l e R s m args below meth c H1 locs c1 s1 Q (F0 m (pc + 2) ls (.ref q :: rest))) : W p l e R s m args below meth c H locs cells slots Q (F0 m pc ls (.int (iI x) :: rest)) := by
  subst hx
  have hN2 : N < 2147483648 := by omega
  refine va_newaK (atype := .byte) (n := iI (N : Int)) (N := N) h.x h.b (h.t _ q580) rfl d rfl (fun z => by rw [iI_l0 ⟨by omega, by omega⟩] at z; omega) (iI_cl hN2) (show N * 1 ≤ _ by omega) hc.1 hc.2 rfl (fun H1 cA e1 z1 o1 _ hf => ?_)
  have hcA : cA = G.2 2 := Option.some.inj (hf.symm.trans (h.k.2 2 _ rfl).2)
  subst hcA
  have he : zAt G H.size (zB G N (fun _ => 0)) H1 := by
    show H1[H.size]? = some (vp_cell (G.2 2) (N, .inl (fun _ => iI 0)))
    rw [e1, vp_cell_i, iI_0]; rfl
  obtain ⟨a1, a2, a3⟩ := z_push (M := M) hP hD hS rfl he (by omega) o1
  rw [hw] at a1 a2
  exact W.widen h1.1 h1.2 (kk H.size H1 hS.1 (Nat.le_refl _) a1 a2 a3 ⟨by omega, fun q hq _ => o1 q hq⟩)
theorem z_tbald (h : zC p l s0 G s m args c own cc) (ho : zO s0 H) {t N k : Nat} {f : Nat → Value} {x y : Int} (hT : va_T .byte t N f (zN s0) s0 s0.heap) (hx : x = (k : Int)) (hk : k < N ∧ N < 2147483648) (hq : f k = .int (iI y)) (d : decode cc pc = .ok (.baload, 1)) (kk : W p l e R s m args below meth c H locs cells slots Q (F0 m (pc + 1) ls (.int (iI y) :: rest))) : W p l e R s m args below meth c H locs cells slots Q (F0 m pc ls (.int (iI x) :: .ref t :: rest)) := by
  subst hx
  obtain ⟨cell, h1, h2, h3, h4, h5, h6, h7⟩ := zT h.w ho hT
  refine W.bald (v := .int (iI y)) h.x h.b h1 h2 h3 ?_ ?_ rfl rfl d kk
  · rw [iI_cl (Nat.lt_trans hk.1 hk.2), iI_l0 ⟨by omega, by omega⟩]; omega
  · rw [iI_cl (Nat.lt_trans hk.1 hk.2), h6 k hk.1, hq]
/-- System.arraycopy of the first k bytes -/
theorem z_copyb (h : zC p l s0 G s m args c own cc) (hml : c.maxLocals = ls.size) {index : Nat} (hlink : Cond.methodLink own index arraycopyName ∈ lw_all)
    (hP : va_P G.1 zCl ws H) (hD : va_D A ws) (hS : va_S A H0 H locs) (q1 : Nat) {a0 a n0 n1 k : Nat} {f g : Nat → Int} {ws' : va_W} (ha0 : zAt G a0 (zB G n0 f) H) (ha1 : ws[q1]? = some (a, zB G n1 g)) {y : Int} (hy : y = (k : Int)) (hn : k ≤ n0 ∧ k ≤ n1 ∧ n0 ≤ 100000 ∧ n1 ≤ 100000) (hfi : ∀ i, i < k → 0 ≤ f i ∧ f i < 128) (hw : ws.set q1 (a, zB G n1 (fun j => if j < k then f j else g j)) = ws')
    (hframes : 1 ≤ R.frames) (hlocals : (rest.map fun v => v.category).sum + (nativeFrameWords "java/lang/System" "arraycopy" 5 + 11) ≤ R.locals) (hdg : decode cc pc = .ok (.invokestatic index, 3))
    (kk : ∀ (H1 : Heap) (locs1 : List Loc), va_P G.1 zCl ws' H1 → va_D A ws' → va_S A H0 H1 locs1 → W p l e R s m args below meth c H1 locs1 cells slots Q (F0 m (pc + 3) ls rest)) : W p l e R s m args below meth c H locs cells slots Q (F0 m pc ls (.int (iI y) :: .int (iI 0) :: .ref a :: .int (iI 0) :: .ref a0 :: rest)) := by
  subst hy
  subst hw
  have cl : (iI ((k : Nat) : Int)).toNatClampNeg = k := iI_cl (by omega)
  have cl0 : (iI 0).toNatClampNeg = 0 := rfl
  have nl : ¬ iI ((k : Nat) : Int) < 0 := by rw [iI_l0 ⟨by omega, by omega⟩]; omega
  intro T hT X
  have hc0 : H[a0]? = some (vp_cell (G.2 2) (n0, .inl (fun j => iI (f j)))) := ha0
  have hc1 : H[a]? = some (vp_cell (G.2 2) (n1, .inl (fun j => iI (g j)))) := hP q1 _ ha1
  obtain ⟨-, k0, hk0, cm0, hkk0⟩ := (h.k.2 2 _ rfl).1 n0 (fun j => .int (iI (f j)))
  obtain ⟨vm', X', step⟩ := X.arraycopy h.x h.o (h.t _ hlink) (h.t _ q629) (h.t _ q628) (h.t _ q81) (src := a0) (dst := a) (cs := vp_cell (G.2 2) (n0, .inl (fun j => iI (f j)))) (cd := vp_cell (G.2 2) (n1, .inl (fun j => iI (g j)))) (srcPos := iI 0) (destPos := iI 0) (n := iI ((k : Nat) : Int)) (by rw [hT]; exact hc0) (by rw [hT]; exact hc1)
    (fun _ h => by cases h) (fun _ h => by cases h) (fun h => by cases h) (fun h => by cases h) hk0 hk0 hkk0 hkk0 (by simp [refKind]) (by decide) (by decide) nl
    (by show ¬ _ > ((arrV (G.2 2) n0 (fun j => .int (iI (f j)))).slots.size : Int); rw [arrV_size, show (iI 0).toInt = 0 from rfl, iI_toInt ⟨by omega, by omega⟩]; omega)
    (by show ¬ _ > ((arrV (G.2 2) n1 (fun j => .int (iI (g j)))).slots.size : Int); rw [arrV_size, show (iI 0).toInt = 0 from rfl, iI_toInt ⟨by omega, by omega⟩]; omega)
    (fun vm₁ _ i hi => by
      rw [cl] at hi
      have e : (vp_cell (G.2 2) (n0, .inl (fun j => iI (f j)))).slots.getD ((iI 0).toNatClampNeg + i) .null = .int (iI (f i)) := by
        show (arrV (G.2 2) n0 (fun j => .int (iI (f j)))).slots.getD _ _ = _
        rw [cl0, Nat.zero_add, Array.getD_eq_getD_getElem?, arrV_read _ _ (by omega)]
        rfl
      refine ⟨?_, by rw [e]; exact trivial⟩
      rw [e]
      have h1 := hfi i hi
      have := by_fit (f i).toNat (by omega)
      rwa [show (((f i).toNat : Nat) : Int) = f i by omega] at this)
    (g := F0 m pc ls (.int (iI ((k : Nat) : Int)) :: .int (iI 0) :: .ref a :: .int (iI 0) :: .ref a0 :: rest)) rfl (by rw [hml]) (rest := rest) rfl (by rw [h.b]; exact hdg) hframes (by show 2 * 0 + _ + _ ≤ _; omega)
  have e1 : copied (vp_cell (G.2 2) (n0, .inl (fun j => iI (f j)))) (vp_cell (G.2 2) (n1, .inl (fun j => iI (g j)))) (iI 0) (iI 0) (iI ((k : Nat) : Int)) = vp_cell (G.2 2) (n1, .inl (fun j => iI (if j < k then f j else g j))) := by
    refine (va_copied (fun z => .int z) (G.2 2) (G.2 2) (fun j => iI (f j)) (fun j => iI (g j)) (by rw [cl, cl0]; omega)).trans ?_
    rw [cl, cl0, vp_cell_i]
    refine arrV_congr (fun j hj => ?_)
    unfold va_cpy
    by_cases hjk : j < k
    · rw [if_pos (by omega), if_pos hjk]; simp
    · rw [if_neg (by omega), if_neg hjk]
  rw [e1] at X' step
  have hl : a < H.size := (Array.getElem?_eq_some_iff.mp hc1).1
  have hheap : ((T.setVm vm').setCell a (vp_cell (G.2 2) (n1, .inl (fun j => iI (if j < k then f j else g j))))).heap = H.setIfInBounds a (vp_cell (G.2 2) (n1, .inl (fun j => iI (if j < k then f j else g j)))) := by rw [← hT]; rfl
  have oq : ∀ q : Nat, q ≠ a → (H.setIfInBounds a (vp_cell (G.2 2) (n1, .inl (fun j => iI (if j < k then f j else g j)))))[q]? = H[q]? := fun q hq => by simp [Array.getElem?_setIfInBounds, Ne.symm hq]
  obtain ⟨t, a1, b1⟩ := kk _ _ (hP.set hD ha1 (show (H.setIfInBounds a _)[a]? = some _ by simp [Array.getElem?_setIfInBounds, hl]) oq) (hD.set ha1) ⟨by simp; exact hS.1, fun q g1 g2 => by
      rw [oq q (fun e => g2 (by rw [e]; exact hD.2 q1 _ ha1))]
      exact hS.2.1 q g1 g2, fun q hq => by
      rcases List.mem_append.mp hq with h | h
      · exact hS.2.2 q h
      · obtain ⟨z, -, hz⟩ := List.mem_map.mp h
        rw [← hz]
        exact hD.2 q1 _ ha1⟩ _ hheap X'
  exact ⟨t, step t a1, b1⟩
end BY
