/-! HELPERS of the printed walks -/
set_option maxRecDepth 100000
theorem va_nil {D : va_G} {cl : List vw_C} {H : Heap} : va_P D cl [] H := fun k q h => by cases h
theorem va_nilD {A : Nat → Prop} : va_D A [] := ⟨fun i j p q h => (by cases h), fun k q h => (by cases h)⟩
theorem zle {x y z : Nat} (h : y = z) (k : x ≤ z) : x ≤ y := by omega
theorem zpk {G : zG} {ws : va_W} {H H1 : Heap} (h : va_P G.1 zCl ws H) (hF : zF M0 H H1) : va_P G.1 zCl ws H1 := h.kept (fun k x hx => hF.2 x.1 (h k x hx).lt id)
/-- new cells, apart -/
abbrev NW (G : zG) (H h : Heap) (ws : va_W) : Prop := va_P G.1 zCl ws h ∧ va_D (fun q => H.size ≤ q) ws
theorem zdn {H0 : Heap} {ws : va_W} (h : va_D (zA M0 H0) ws) : va_D (fun q => H0.size ≤ q) ws := h.weaken (fun _ _ _ z => z.elim False.elim id)
theorem zjn {G : zG} {M : Nat → Prop} {H0 H H1 : Heap} {ws wn : va_W} (hP : va_P G.1 zCl ws H) (hD : va_D (zA M H0) ws) (hz : H0.size ≤ H.size) (hF : zF M0 H H1) (hn : NW G H H1 wn) : va_P G.1 zCl (ws ++ wn) H1 ∧ va_D (zA M H0) (ws ++ wn) := by
  refine ⟨(zpk hP hF).app hn.1, hD.app (hn.2.weaken (fun _ _ _ z => Or.inr (Nat.le_trans hz z))) (fun i j x y hx hy e => ?_)⟩
  have h1 := (hP i x hx).lt
  have h2 := hn.2.2 j y hy
  omega
theorem zo {G : zG} {M : Nat → Prop} {H0 H : Heap} {locs : List Loc} {a : Nat} {e : va_E} (hS : va_S (zA M H0) H0 H locs) (h : zAt G a e H0) (hn : ¬ M a) : zAt G a e H := h.ext (zS_F hS) hn
theorem zcI {G : zG} {ws : va_W} {H : Heap} {n : Nat} {a : Nat} {v w : Nat → Int} (hP : va_P G.1 zCl ws H) (i : Nat) (hi : ws[i]? = some (a, zI G n v)) (hw : ∀ j, j < n → v j = w j) : va_P G.1 zCl (ws.set i (a, zI G n w)) H := by
  intro k q hk
  by_cases h : k = i
  · subst h
    rw [List.getElem?_set_self (List.getElem?_eq_some_iff.mp hi).1] at hk
    cases hk
    exact zI_congr (hP k _ hi) hw
  · rw [List.getElem?_set_ne (Ne.symm h)] at hk
    exact hP k q hk
section TOP
variable {p : Program} {l : Launch} {e : Env} {R : Room} {s : State} {m : MethodId} {args : Array Value} {below : List Frame} {meth : Method} {c : Code} {H : Heap} {locs : List Loc} {cells slots : Nat} {Q : State → Prop}
variable {cc : ByteArray} {pc : Nat} {ls : Array Slot} {rest : List Value} {s0 : State} {G : zG} {own : String} {A : Nat → Prop} {H0 : Heap} {ws : va_W} {M : Nat → Prop} {mc ms : Nat} {P : Option Value → Heap → Prop} {PX : String → Heap → Prop}
theorem z_top {a b : Int} (h : a = b) (k : W p l e R s m args below meth c H locs cells slots Q (F0 m pc ls (.int (iI b) :: rest))) : W p l e R s m args below meth c H locs cells slots Q (F0 m pc ls (.int (iI a) :: rest)) := by subst h; exact k
theorem z_top2 {a b : Int} {v : Value} (h : a = b) (k : W p l e R s m args below meth c H locs cells slots Q (F0 m pc ls (v :: .int (iI b) :: rest))) : W p l e R s m args below meth c H locs cells slots Q (F0 m pc ls (v :: .int (iI a) :: rest)) := by subst h; exact k
theorem z_topl {a b : Int} (h : a = b) (k : W p l e R s m args below meth c H locs cells slots Q (F0 m pc ls (.long (lI b) :: rest))) : W p l e R s m args below meth c H locs cells slots Q (F0 m pc ls (.long (lI a) :: rest)) := by subst h; exact k
/-- two ints that are the same -/
theorem z_csne (hx : p.tables.exec = Jvm.exec) (hb : c.code = cc) {x : Int32} {off : Int} (d : decode cc pc = .ok (.if_icmp .ne off, 3)) (tgt : Nat) (ht : (pc : Int) + off = (tgt : Int)) (k : W p l e R s m args below meth c H locs cells slots Q (F0 m (pc + 3) ls rest)) : W p l e R s m args below meth c H locs cells slots Q (F0 m pc ls (.int x :: .int x :: rest)) :=
  lv_icmp_ne hx hb d ht (fun z => absurd rfl z) (fun _ => k)
theorem z_lret (h : zC p l s0 G s m args c own cc) (hr : meth.sig.returnType = some .long) (hk : meth.locks = false) (hQ : ∀ t, MQ below (zQ H0 M P) args s mc ms (zA M H0) t → Q t) (hS : va_S (zA M H0) H0 H locs) (hc : cells ≤ mc ∧ slots ≤ ms) {v : Int64} (hp : P (some (.long v)) H) (d : decode cc pc = .ok (.lreturn, 1)) : W p l e R s m args below meth c H locs cells slots Q (F0 m pc ls [.long v]) :=
  W.to hQ (W.widen hc.1 hc.2 (W.lret h.x h.b hr (z_q hS hp) hS.2.2 d hk))
theorem z_fret (h : zC p l s0 G s m args c own cc) (hr : meth.sig.returnType = some .float) (hk : meth.locks = false) (hQ : ∀ t, MQ below (zQ H0 M P) args s mc ms (zA M H0) t → Q t) (hS : va_S (zA M H0) H0 H locs) (hc : cells ≤ mc ∧ slots ≤ ms) {v : UInt32} (hp : P (some (.float v)) H) (d : decode cc pc = .ok (.freturn, 1)) : W p l e R s m args below meth c H locs cells slots Q (F0 m pc ls [.float v]) :=
  W.to hQ (W.widen hc.1 hc.2 (W.fret h.x h.b hr (z_q hS hp) hS.2.2 d hk))
theorem z_dret (h : zC p l s0 G s m args c own cc) (hr : meth.sig.returnType = some .double) (hk : meth.locks = false) (hQ : ∀ t, MQ below (zQ H0 M P) args s mc ms (zA M H0) t → Q t) (hS : va_S (zA M H0) H0 H locs) (hc : cells ≤ mc ∧ slots ≤ ms) {v : UInt64} (hp : P (some (.double v)) H) (d : decode cc pc = .ok (.dreturn, 1)) : W p l e R s m args below meth c H locs cells slots Q (F0 m pc ls [.double v]) :=
  W.to hQ (W.widen hc.1 hc.2 (W.dret h.x h.b hr (z_q hS hp) hS.2.2 d hk))
end TOP
/-! what fresh objects hold -/
theorem df_X1 : ∀ j, j < 6 → defaultValue (tyX1 j) = vp_V [.int (iI 0), .null, .null, .null, .int (iI 0), .long (lI 0)] j := by intro j hj; rcases (show j = 0 ∨ j = 1 ∨ j = 2 ∨ j = 3 ∨ j = 4 ∨ j = 5 by omega) with rfl | rfl | rfl | rfl | rfl | rfl <;> rfl
theorem df_X2 : ∀ j, j < 1 → defaultValue (tyX2 j) = vp_V [.int (iI 0)] j := by intro j hj; rcases (show j = 0 by omega) with rfl; rfl
theorem df_X3 : ∀ j, j < 5 → defaultValue (tyX3 j) = vp_V [.int (iI 0), .int (iI 0), .int (iI 0), .null, .null] j := by intro j hj; rcases (show j = 0 ∨ j = 1 ∨ j = 2 ∨ j = 3 ∨ j = 4 by omega) with rfl | rfl | rfl | rfl | rfl <;> rfl
theorem df_X4 : ∀ j, j < 3 → defaultValue (tyX4 j) = vp_V [.long (lI 0), .double 0, .null] j := by intro j hj; rcases (show j = 0 ∨ j = 1 ∨ j = 2 by omega) with rfl | rfl | rfl <;> rfl
theorem df_X5 : ∀ j, j < 5 → defaultValue (tyX5 j) = vp_V [.null, .null, .null, .null, .null] j := by intro j hj; rcases (show j = 0 ∨ j = 1 ∨ j = 2 ∨ j = 3 ∨ j = 4 by omega) with rfl | rfl | rfl | rfl | rfl <;> rfl
theorem df_X6 : ∀ j, j < 6 → defaultValue (tyX6 j) = vp_V [.int (iI 0), .null, .null, .int (iI 0), .null, .null] j := by intro j hj; rcases (show j = 0 ∨ j = 1 ∨ j = 2 ∨ j = 3 ∨ j = 4 ∨ j = 5 by omega) with rfl | rfl | rfl | rfl | rfl | rfl <;> rfl
theorem df_X7 : ∀ j, j < 3 → defaultValue (tyX7 j) = vp_V [.null, .null, .null] j := by intro j hj; rcases (show j = 0 ∨ j = 1 ∨ j = 2 by omega) with rfl | rfl | rfl <;> rfl
theorem df_X8 : ∀ j, j < 2 → defaultValue (tyX8 j) = vp_V [.int (iI 0), .null] j := by intro j hj; rcases (show j = 0 ∨ j = 1 by omega) with rfl | rfl <;> rfl
theorem df_J2 : ∀ j, j < 3 → defaultValue (tyJ2 j) = vp_V [.int (iI 0), .null, .int (iI 0)] j := by intro j hj; rcases (show j = 0 ∨ j = 1 ∨ j = 2 by omega) with rfl | rfl | rfl <;> rfl
theorem df_J17 : ∀ j, j < 4 → defaultValue (tyJ17 j) = vp_V [.int (iI 0), .int (iI 0), .int (iI 0), .null] j := by intro j hj; rcases (show j = 0 ∨ j = 1 ∨ j = 2 ∨ j = 3 by omega) with rfl | rfl | rfl | rfl <;> rfl
theorem df_J20 : ∀ j, j < 1 → defaultValue (tyJ20 j) = vp_V [.null] j := by intro j hj; rcases (show j = 0 by omega) with rfl; rfl
theorem df_J24 : ∀ j, j < 4 → defaultValue (tyJ24 j) = vp_V [.null, .int (iI 0), .int (iI 0), .int (iI 0)] j := by intro j hj; rcases (show j = 0 ∨ j = 1 ∨ j = 2 ∨ j = 3 by omega) with rfl | rfl | rfl | rfl <;> rfl
theorem df_J14 : ∀ j, j < 4 → defaultValue (tyJ14 j) = vp_V [.null, .int (iI 0), .int (iI 0), .int (iI 0)] j := by intro j hj; rcases (show j = 0 ∨ j = 1 ∨ j = 2 ∨ j = 3 by omega) with rfl | rfl | rfl | rfl <;> rfl
/-- behind a call that wrote one of our cells -/
theorem zjm {G : zG} {A : Nat → Prop} {H H1 : Heap} {ws : va_W} {a : Nat} {e0 e1 : va_E} (hP : va_P G.1 zCl ws H) (hD : va_D A ws) (hF : zF (fun q => q = a) H H1) (i : Nat) (hi : ws[i]? = some (a, e0)) (he : zAt G a e1 H1) : va_P G.1 zCl (ws.set i (a, e1)) H1 ∧ va_D A (ws.set i (a, e1)) := by
  refine ⟨fun k q hk => ?_, hD.set hi⟩
  by_cases h : k = i
  · subst h
    rw [List.getElem?_set_self (List.getElem?_eq_some_iff.mp hi).1] at hk
    cases hk
    exact he
  · rw [List.getElem?_set_ne (Ne.symm h)] at hk
    exact (hP k q hk).kept (hF.2 q.1 (hP k q hk).lt (fun z => h (hD.1 k i q _ hk hi z)))
theorem zjmn {G : zG} {M : Nat → Prop} {H0 H H1 : Heap} {ws wn : va_W} {a : Nat} {e0 e1 : va_E} (hP : va_P G.1 zCl ws H) (hD : va_D (zA M H0) ws) (hz : H0.size ≤ H.size) (hF : zF (fun q => q = a) H H1) (i : Nat) (hi : ws[i]? = some (a, e0)) (he : zAt G a e1 H1) (hn : NW G H H1 wn) : va_P G.1 zCl (ws.set i (a, e1) ++ wn) H1 ∧ va_D (zA M H0) (ws.set i (a, e1) ++ wn) := by
  obtain ⟨h1, h2⟩ := zjm hP hD hF i hi he
  refine ⟨h1.app hn.1, h2.app (hn.2.weaken (fun _ _ _ z => Or.inr (Nat.le_trans hz z))) (fun j k x y hx hy e => ?_)⟩
  have h3 := hn.2.2 k y hy
  have h4 : x.1 < H.size := by
    by_cases h : j = i
    · subst h
      rw [List.getElem?_set_self (List.getElem?_eq_some_iff.mp hi).1] at hx
      cases hx
      exact (hP j _ hi).lt
    · rw [List.getElem?_set_ne (Ne.symm h)] at hx
      exact (hP j x hx).lt
  omega
theorem zsame_J2 {p : Program} {l : Launch} {s0 : State} {G : zG} {s : State} {m : MethodId} {args : Array Value} {c : Code} {own : String} {cc : ByteArray} (h : zC p l s0 G s m args c own cc) : ∀ x, s.fieldFound? (TJ2 0).1 (TJ2 0).2.1 (TJ2 0).2.2.1 = some x → s.fieldFound? "java/util/ArrayList" (TJ2 0).2.1 (TJ2 0).2.2.1 = some x := fun x hx => u_same (h.t _ q130) x hx
theorem zfit {a b k R z : Nat} (h : b = k) (h2 : R = z) (q : a + k ≤ z) : a + b ≤ R := by omega
theorem zad {a b k x : Nat} (h : b = k) (q : a + k ≤ x) : a + b ≤ x := by omega
theorem zjm2 {G : zG} {A : Nat → Prop} {H H1 : Heap} {ws : va_W} {a b : Nat} {e0 e1 f0 f1 : va_E} (hP : va_P G.1 zCl ws H) (hD : va_D A ws) (hF : zF (fun q => q = a ∨ q = b) H H1) (i j : Nat) (hi : ws[i]? = some (a, e0)) (hj : ws[j]? = some (b, f0)) (he : zAt G a e1 H1) (hf : zAt G b f1 H1) : va_P G.1 zCl ((ws.set i (a, e1)).set j (b, f1)) H1 ∧ va_D A ((ws.set i (a, e1)).set j (b, f1)) := by
  have hj' : ∃ f2, (ws.set i (a, e1))[j]? = some (b, f2) := by
    by_cases h : j = i
    · subst h
      rw [hi] at hj; cases hj
      exact ⟨e1, by rw [List.getElem?_set_self (List.getElem?_eq_some_iff.mp hi).1]⟩
    · exact ⟨f0, by rw [List.getElem?_set_ne (Ne.symm h)]; exact hj⟩
  obtain ⟨f2, hj'⟩ := hj'
  refine ⟨fun k q hk => ?_, (hD.set hi).set hj'⟩
  by_cases h : k = j
  · subst h
    rw [List.getElem?_set_self (List.getElem?_eq_some_iff.mp hj').1] at hk
    cases hk
    exact hf
  · rw [List.getElem?_set_ne (Ne.symm h)] at hk
    by_cases h2 : k = i
    · subst h2
      rw [List.getElem?_set_self (List.getElem?_eq_some_iff.mp hi).1] at hk
      cases hk
      exact he
    · rw [List.getElem?_set_ne (Ne.symm h2)] at hk
      exact (hP k q hk).kept (hF.2 q.1 (hP k q hk).lt (fun z => z.elim (fun z => h2 (hD.1 k i q _ hk hi z)) (fun z => h (hD.1 k j q _ hk hj z))))
