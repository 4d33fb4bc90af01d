/-! ROWS: a clone of bytes; instanceof -/
set_option maxRecDepth 100000
section CL
variable {p : Program} {l : Launch} {e : Env} {R : Room} {s : State} {m : MethodId} {args : Array Value} {below : List Frame} {meth : Method} {c : Code} {H : Heap} {locs : List Loc} {cells slots : Nat} {Q : State → Prop}
variable {cc : ByteArray} {pc : Nat} {ls : Array Slot} {rest : List Value} {s0 : State} {G : zG} {own : String} {A : Nat → Prop} {H0 : Heap} {ws : va_W} {M : Nat → Prop}
theorem z_cloneb (h : zC p l s0 G s m args c own cc) (hml : c.maxLocals = ls.size) {index : Nat} (hlink : Cond.methodLink own index ⟨"[B", "clone", "()Ljava/lang/Object;"⟩ ∈ lw_all) (hsame : Cond.sameMethod "[B" "java/lang/Object" "clone" "()Ljava/lang/Object;" ∈ lw_all) (hnat : Cond.native ⟨"java/lang/Object", "clone", "()Ljava/lang/Object;"⟩ ∈ lw_all) (hinst : Cond.instanceMethod ⟨"java/lang/Object", "clone", "()Ljava/lang/Object;"⟩ ∈ lw_all) (hsel : Cond.selects "[B" ⟨"[B", "clone", "()Ljava/lang/Object;"⟩ ⟨"java/lang/Object", "clone", "()Ljava/lang/Object;"⟩ ∈ lw_all)
    (hP : va_P G.1 zCl ws H) (hD : va_D (zA M H0) ws) (hS : va_S (zA M H0) H0 H locs) {a0 n : Nat} {f : Nat → Int} {c1 s1 : Nat} (ha0 : zAt G a0 (zB G n f) H) (hlt : a0 < H0.size) (hna : ¬ M a0) (hfi : ∀ i, i < n → 0 ≤ f i ∧ f i < 128)
    (hframes : 1 ≤ R.frames) (hlocals : (rest.map fun v => v.category).sum + 14 ≤ R.locals) (hc : cells + 1 ≤ R.cells ∧ slots + n ≤ R.slots) (h1 : cells + 1 ≤ c1 ∧ slots + n ≤ s1) (hdg : decode cc pc = .ok (.invokevirtual index, 3))
    (kk : ∀ (q : Nat) (H1 : Heap), va_P G.1 zCl (ws ++ [(q, zB G n f)]) H1 → va_D (zA M H0) (ws ++ [(q, zB G n f)]) → va_S (zA M H0) H0 H1 locs → W p l e R s m args below meth c H1 locs c1 s1 Q (F0 m (pc + 3) ls (.ref q :: rest))) : W p l e R s m args below meth c H locs cells slots Q (F0 m pc ls (.ref a0 :: rest)) := by
  have hnA : ¬ zA M H0 a0 := fun z => z.elim hna (fun z => by omega)
  obtain ⟨b0, ht⟩ := h.e.1
  have hcl : va_Nw (.castable "[B" "java/lang/Cloneable") s := (va_Nw.of (A := b0) rfl (ht _ q622)).warmC h.w
  have hP' : va_P G.1 zCl (ws ++ [(a0, zB G n f)]) H := hP.app (zP1 ha0)
  have hD' : va_D (fun q => zA M H0 q ∨ q = a0) (ws ++ [(a0, zB G n f)]) := va_D.app (va_D.weaken hD (fun _ _ _ z => Or.inl z)) (zD1 (Or.inr rfl)) (fun i j x y hx hy e => by
    have hj : j = 0 := by have := (List.getElem?_eq_some_iff.mp hy).1; simp at this; omega
    subst hj
    cases hy
    exact hnA (by have := hD.2 i x hx; rw [e] at this; exact this))
  have hS' : va_S (fun q => zA M H0 q ∨ q = a0) H0 H locs := ⟨hS.1, fun q g1 g2 => hS.2.1 q g1 (fun z => g2 (Or.inl z)), fun q hq => Or.inl (hS.2.2 q hq)⟩
  refine va_clone h.x h.b hml h.o (h.t _ hlink) (h.t _ hsame) (h.t _ hnat) (h.t _ hinst) (h.t _ hsel) hcl h.k hP' hD' hS' (fun q hq => Or.inl (Or.inr hq)) ws.length 2 (by rw [List.getElem?_append_right (Nat.le_refl _), Nat.sub_self]; rfl) rfl (h.k.2 2 _ rfl).2 ?_ hframes hlocals hc.1 hc.2 hdg ?_
  · intro i v hv
    have hi : i < n := by
      have := (Array.getElem?_eq_some_iff.mp hv).1
      have h2 : (vp_cell (G.2 2) (n, .inl (fun j => iI (f j)))).slots.size = n := by rw [vp_cell_i]; exact arrV_size _ _ _
      omega
    have h3 : (vp_cell (G.2 2) (n, .inl (fun j => iI (f j)))).slots[i]? = some (.int (iI (f i))) := by rw [vp_cell_i]; exact arrV_read _ _ hi
    cases Option.some.inj (h3.symm.trans hv)
    have h1 := hfi i hi
    have := by_fit (f i).toNat (by omega)
    rwa [show (((f i).toNat : Nat) : Int) = f i by omega] at this
  · intro q H1 _ a1 a2 a3
    have b1 := zswapP (a := ws) (T := [(a0, zB G n f)]) (b := [(q, zB G n f)]) a1
    have b2 := zswapD (a := ws) (T := [(a0, zB G n f)]) (b := [(q, zB G n f)]) a2
    have c1' := zdropP b1
    have hq0 : a0 ≠ q := by
      have := a2.pw
      rw [List.pairwise_append] at this
      exact this.2.2 (a0, zB G n f) (by simp) (q, zB G n f) (by simp)
    have c2 : va_D (zA M H0) (ws ++ [(q, zB G n f)]) := by
      refine va_D.of_pw (zdropD b2).pw (fun x hx => ?_)
      rcases List.mem_append.mp hx with hx | hx
      · obtain ⟨j, hj⟩ := List.mem_iff_getElem?.mp hx
        exact hD.2 j x hj
      · have hx2 := List.mem_singleton.mp hx
        subst hx2
        have := a2.2 (ws.length + 1) (q, zB G n f) (by rw [List.getElem?_append_right (by simp)]; simp)
        exact this.resolve_right (fun z => hq0 z.symm)
    have hal : H1[a0]? = H[a0]? := by
      have e1 : H1[a0]? = some (vp_cell (G.2 2) (n, .inl (fun j => iI (f j)))) := a1 ws.length (a0, zB G n f) (by rw [List.append_assoc, List.getElem?_append_right (Nat.le_refl _), Nat.sub_self]; rfl)
      have e2 : H[a0]? = some (vp_cell (G.2 2) (n, .inl (fun j => iI (f j)))) := ha0
      rw [e1, e2]
    have c3 : va_S (zA M H0) H0 H1 locs := ⟨a3.1, fun q g1 g2 => by
      by_cases e : q = a0
      · subst e; rw [hal]; exact hS.2.1 q g1 g2
      · exact a3.2.1 q g1 (fun z => z.elim g2 e), hS.2.2⟩
    exact W.widen h1.1 h1.2 (kk q H1 c1' c2 c3)
end CL
