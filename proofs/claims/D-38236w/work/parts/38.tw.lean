/-! ROW: a new exception is thrown; tests that throw -/
set_option maxRecDepth 100000
section TW
variable {p : Program} {l : Launch} {e : Env} {R : Room} {s : State} {m : MethodId} {args : Array Value} {below : List Frame} {meth : Method} {c : Code} {H : Heap} {locs : List Loc} {cells slots : Nat} {Q : State → Prop}
variable {cc : ByteArray} {pc : Nat} {ls : Array Slot} {rest : List Value} {s0 : State} {G : zG} {own : String} {H0 : Heap} {M : Nat → Prop} {mc ms : Nat} {P : Option Value → Heap → Prop} {PX : String → Heap → Prop}
theorem z_wat (h : zC p l s0 G s m args c own cc) {L : List Cond} (h1 : ∀ w ∈ L, w ∈ lw_tbl) (h2 : L.all okW = true) : ∀ w ∈ L, w.before args s = true := by
  intro w hw
  obtain ⟨a0, ht⟩ := h.e.1
  have h3 := List.all_eq_true.mp h2 w hw
  have h4 := h1 w hw
  by_cases hg : goodWord w = true
  · exact h.t w (List.mem_filter.mpr ⟨h4, hg⟩)
  · unfold okW at h3
    rw [Bool.or_eq_true] at h3
    have h5 := h3.resolve_left hg
    have h6 := ht w h4
    cases w <;> first | (cases h5; done) | skip
    · exact va_Nw.use rfl ((va_Nw.of (A := a0) rfl h6).warmD h.w)
    · exact Cond.privateMethod_warm h.w h6
    · exact va_Nw.use rfl ((va_Nw.of (A := a0) rfl h6).warmC h.w)
theorem z_throw (h : zC p l s0 G s m args c own cc) {cls : String} {ik ic : Nat} (hH : s.heap = H0) (hO : zO s0 H0) (hMo : ∀ z, M z → s0.heap.size ≤ z) (hst : ls.size = c.maxLocals) (hno : ∀ x ∈ c.exceptionTable.toList, False) (hk : meth.locks = false) (hX : ∀ t, vx_MQ below (zQ H0 M P) (zX H0 M PX) args s mc ms (zA M H0) t → Q t) (hS : va_S (zA M H0) H0 H locs) (hcls : Bundle.fit cls = true)
    (hat : ∀ w ∈ vx_at0 own ic cls exN, w ∈ lw_tbl) (hok : (vx_at0 own ic cls exN).all okW = true) (hq1 : Cond.classLink own ik cls ∈ lw_all) (hq2 : Cond.initialized cls ∈ lw_all) (hot : (Cond.classLink own ik cls :: Cond.initialized cls :: vx_at0 own ic cls exN).all vx_ot = true)
    (d0 : decode cc pc = .ok (.new ik, 3)) (d3 : decode cc (pc + 3) = .ok (.dup, 1)) (d4 : decode cc (pc + 4) = .ok (.invokespecial ic, 3)) (d7 : decode cc (pc + 7) = .ok (.athrow, 1))
    (hR : 5 < R.frames ∧ (rest.map fun v => v.category).sum + 81 ≤ R.locals ∧ cells + 1 ≤ R.cells ∧ slots + 6 ≤ R.slots) (hc : cells + 1 ≤ mc ∧ slots + 6 ≤ ms) (hp : ∀ H1 : Heap, zF M0 H H1 → PX cls H1) : W p l e R s m args below meth c H locs cells slots Q (F0 m pc ls rest) := by
  subst hH
  have hNA : ∀ q, zA M s.heap q → zN s0 q := fun q hq => hq.elim (fun z => hMo q z) (fun z => Nat.le_trans hO.1 z)
  have hU : vx_Zq Bundle.tN "UNASSIGNED_STACK" Bundle.steD (zA M s.heap) s s.heap := ((h.e.2.2.2.1.2.2.2.2.2.2.2.1.moved h.w.alike).kept (fun a ha _ => hO.2 a ha)).narrow hNA
  have hN : vx_Zq Bundle.tN "SUPPRESSED_SENTINEL" Bundle.listD (zA M s.heap) s s.heap := ((h.e.2.2.2.1.2.2.2.2.2.2.2.2.moved h.w.alike).kept (fun a ha _ => hO.2 a ha)).narrow hNA
  refine W.to hX (vx_throw0 h.x h.b h.e.2.2.1 h.o hcls (names := exN) (by decide) (h.t _ hq1) (h.t _ hq2) (z_wat h hat hok) (fun w hw => List.all_eq_true.mp hot w hw) hU hN hS hst d0 d3 d4 d7 (fun x hx => (hno x hx).elim) hR.1 ?_ hR.2.2.1 hR.2.2.2 hk (fun t hal hsz hold => ⟨hp _ ⟨hsz, fun q hq _ => hold q hq⟩, ?_⟩) hS.2.2 hc.1 hc.2)
  · have := hR.2.1
    show _ + (13 * 3 + 42) ≤ _
    omega
  · exact ⟨Nat.le_trans hS.1 hsz, fun q hq hn => by rw [hold q (Nat.lt_of_lt_of_le hq hS.1)]; exact hS.2.1 q hq (fun z => z.elim hn (fun z => by omega))⟩
end TW
theorem ok_A : (vx_at0 "Versorhall" 3 "java/lang/IllegalArgumentException" exN).all okW = true ∧ (Cond.classLink "Versorhall" 1 "java/lang/IllegalArgumentException" :: Cond.initialized "java/lang/IllegalArgumentException" :: vx_at0 "Versorhall" 3 "java/lang/IllegalArgumentException" exN).all vx_ot = true := by decide +kernel
theorem ok_S : (vx_at0 "Versorhall" 9 "java/lang/IllegalStateException" exN).all okW = true ∧ (Cond.classLink "Versorhall" 7 "java/lang/IllegalStateException" :: Cond.initialized "java/lang/IllegalStateException" :: vx_at0 "Versorhall" 9 "java/lang/IllegalStateException" exN).all vx_ot = true := by decide +kernel
theorem ok_I : (vx_at0 "Versorhall" 12 "java/lang/IndexOutOfBoundsException" exN).all okW = true ∧ (Cond.classLink "Versorhall" 10 "java/lang/IndexOutOfBoundsException" :: Cond.initialized "java/lang/IndexOutOfBoundsException" :: vx_at0 "Versorhall" 12 "java/lang/IndexOutOfBoundsException" exN).all vx_ot = true := by decide +kernel
