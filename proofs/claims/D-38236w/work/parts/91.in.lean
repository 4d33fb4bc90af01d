/-! CONSTRUCTORS: the door, the house, the model, what the law keeps answers in -/
set_option maxRecDepth 100000
section NEWM
variable {p : Program} {l : Launch} {e : Env} {R : Room} {s : State} {m : MethodId} {args : Array Value} {below : List Frame} {meth : Method} {c : Code} {H : Heap} {locs : List Loc} {cells slots : Nat} {Q : State → Prop}
variable {cc : ByteArray} {pc : Nat} {ls : Array Slot} {rest : List Value} {s0 : State} {G : zG} {own : String} {A : Nat → Prop} {H0 : Heap} {ws : va_W} {M : Nat → Prop}
/-- a new object; its monitor is free -/
theorem z_newM (h : zC p l s0 G s m args c own cc) (hP : va_P G.1 zCl ws H) (hD : va_D (zA M H0) ws) (hS : va_S (zA M H0) H0 H locs) {C : String} {T : u_T} {N ci index : Nat} {fs : List Value} {ty : Nat → FieldType} {c1 s1 : Nat} {ws' : Nat → va_W} (hc0 : zCl[ci]? = some (C, T, N)) (hin : ∀ w ∈ u_ws C T N, w ∈ lw_all) (hty : ∀ k, k < N → parseFieldDescriptor (T k).2.2.1 = some (ty k)) (hcl : Cond.classLink own index C ∈ lw_all) (hinst : Cond.instantiable C N ∈ lw_all) (hini : Cond.initialized C ∈ lw_all) (hfs : ∀ j, j < N → defaultValue (ty j) = vp_V fs j) (hc : cells + 1 ≤ R.cells ∧ slots + N ≤ R.slots) (h1 : cells + 1 ≤ c1 ∧ slots + N ≤ s1) (hw : ∀ q, ws ++ [(q, zOb ci fs)] = ws' q) (d : decode cc pc = .ok (.new index, 3))
    (kk : ∀ (q : Nat) (H1 : Heap), zMn q {} H1 → H0.size ≤ q → H.size ≤ q → va_P G.1 zCl (ws' q) H1 → va_D (zA M H0) (ws' q) → va_S (zA M H0) H0 H1 locs → zF M0 H H1 → W p l e R s m args below meth c H1 locs c1 s1 Q (F0 m (pc + 3) ls (.ref q :: rest))) : W p l e R s m args below meth c H locs cells slots Q (F0 m pc ls rest) := by
  have hKn := h.k.1 ci _ hc0
  refine W.newcK h.x h.b h.o (h.t _ hcl) (h.t _ hinst) (h.t _ hini) rfl d hc.1 hc.2 hKn.2.1 rfl (fun H1 kC hkC e1 z1 o1 => ?_)
  have he : zAt G H.size (zOb ci fs) H1 := ⟨_, hc0, (u_born ty h.t hin hKn hkC e1 hty).to hfs⟩
  obtain ⟨a1, a2, a3⟩ := z_push (M := M) hP hD hS rfl he (by omega) o1
  rw [hw] at a1 a2
  exact W.widen h1.1 h1.2 (kk H.size H1 ⟨_, e1, rfl⟩ hS.1 (Nat.le_refl _) a1 a2 a3 ⟨by omega, fun q hq _ => o1 q hq⟩)
/-- a final field is written; no other cell changes -/
theorem z_putFO (h : zC p l s0 G s m args c own cc) (hin2 : meth.name = "<init>") (hP : va_P G.1 zCl ws H) (hD : va_D A ws) (hS : va_S A H0 H locs) (q0 : Nat) {a ci : Nat} {fs : List Value} {C : String} {T : u_T} {N k index : Nat} {ref : String} {v : Value} {ty : FieldType} {ty0 : Nat → FieldType} {ws' : va_W} (he : ws[q0]? = some (a, zOb ci fs)) (hc : zCl[ci]? = some (C, T, N)) (hin : ∀ w ∈ u_ws C T N, w ∈ lw_all) (hty : ∀ k, k < N → parseFieldDescriptor (T k).2.2.1 = some (ty0 k)) (hnm : ∀ a, a < N → ∀ b, b < N → a ≠ b → (T a).2.1 ≠ (T b).2.1) (hk : k < N) (hq : Cond.fieldLink own index ref (T k).2.1 (T k).2.2.1 ∈ lw_all) (hsame : ∀ x, s.fieldFound? (T k).1 (T k).2.1 (T k).2.2.1 = some x → s.fieldFound? ref (T k).2.1 (T k).2.2.1 = some x) (hfin : (T k).2.2.2 = true) (hdecl : (T k).1 = own) (ht : ty0 k = ty) (hn : narrow ty v = v) (hfit : fits ty v = true) (hl : k < fs.length) (hw : ws.set q0 (a, zOb ci (fs.set k v)) = ws') (d : decode cc pc = .ok (.putfield index, 3))
    (kk : ∀ (H1 : Heap) (locs1 : List Loc), va_P G.1 zCl ws' H1 → va_D A ws' → va_S A H0 H1 locs1 → zF (fun z => z = a) H H1 → W p l e R s m args below meth c H1 locs1 cells slots Q (F0 m (pc + 3) ls rest)) : W p l e R s m args below meth c H locs cells slots Q (F0 m pc ls (v :: .ref a :: rest)) := by
  have hap := va_apart (own := own) h.t hin ty0 hty hnm h.k hc
  obtain ⟨r, h1, cell, q1, q2, q3, q4⟩ := hP q0 _ he
  cases Option.some.inj (h1.symm.trans hc)
  obtain ⟨hF, hfc, kC, hkC, hkind⟩ := h.k.1 ci _ hc
  obtain ⟨cf, kf, fi, f, hi, hsl⟩ := hF k hk
  have hlay := h.t _ (hin _ (u_in_lay hk))
  unfold u_lay at hlay
  rw [if_pos hfin] at hlay
  have hst := (u_facts hfc hkC (u_lays h.t hin hk) hi).1
  have hcf : m.cls = cf := by
    obtain ⟨_, _, c', _, _, _, -, -, hf', -, -, -, hown2, -⟩ := Cond.laysFinal_spec hlay
    have e1 : c' = cf := by have := hi.symm.trans hf'; simp at this; exact this.1.symm
    rw [hdecl] at hown2
    rw [← e1]; exact Option.some.inj (h.o.symm.trans hown2)
  have h6 := u_fits hfc hkC hkind (Or.inr hlay) hi (by rw [hty k hk, ht]) hn hfit
  refine W.putFinK h.x h.b h.o (h.t _ hq) (hsame _ hi) hst hcf hin2 (by rw [q2]; exact h6) q1 q3 (by rw [hsl]; exact k2_hasslot (q4 k hk)) rfl rfl d fun H' e1 e2 e3 => ?_
  rw [hsl] at e1 ⊢
  subst hw
  exact kk H' _ (hP.set hD he ⟨_, hc, t_OB.to (V := updV (vp_V fs) k v) ⟨_, e1, q2, q3, t_set q4 hap hk v⟩ (fun j _ => vp_updV_set hl v j)⟩ e3) (hD.set he) (hS.put e2 e3 (hD.2 q0 _ he)) ⟨Nat.le_of_eq e2.symm, fun q _ hn => e3 q hn⟩
end NEWM
/-- a house without algebras -/
def st0 : St := (7, 0, (fun _ => (0, 0, fun _ => 0)), 0, (fun _ => (0, fun _ => 0)), (fun _ => (0, fun _ _ => 0)), 0)
theorem st0_ok : stOk st0 := ⟨Or.inr (Or.inr rfl), by decide, fun k hk => absurd hk (Nat.not_lt_zero k), by decide, fun j hj => absurd hj (Nat.not_lt_zero j), fun k hk => absurd hk (Nat.not_lt_zero k)⟩
def ro0 (G : zG) (q la le dr : Nat) : Ro → Nat := fun a => if a.1 = 0 then q else if a.1 = 1 then la else if a.1 = 3 then le else if a.1 = 5 then dr else G.2 12
theorem dom0_inv {a : Ro} (h : domC st0 a) : ∃ κ : Nat, κ ≤ 5 ∧ a = (κ, 0, 0) := by
  obtain ⟨κ, i, j⟩ := a
  rcases h with ⟨h1, h2, h3⟩ | ⟨-, h, -⟩ | ⟨-, h, -⟩ | ⟨-, h, -⟩ | ⟨-, h, -⟩
  · simp only at h1 h2 h3
    subst h2; subst h3
    exact ⟨κ, h1, rfl⟩
  all_goals exact absurd h (Nat.not_lt_zero _)
theorem dmM0_inv {a : Ro} (h : dmMo st0 a) : ∃ κ : Nat, κ ≤ 4 ∧ a = (κ, 0, 0) := by
  obtain ⟨κ, i, j⟩ := a
  rcases h with ⟨h1, h2, h3⟩ | ⟨-, h, -⟩ | ⟨-, h, -⟩ | ⟨-, h, -⟩ | ⟨-, h, -⟩
  · simp only at h1 h2 h3
    subst h2; subst h3
    exact ⟨κ, h1, rfl⟩
  all_goals exact absurd h (Nat.not_lt_zero _)
theorem HC.born {l : Launch} {G : zG} {s0 : State} {H1 : Heap} {q la le dr : Nat} (hE : zE l s0 G) (hq : s0.heap.size ≤ q) (hla : s0.heap.size ≤ la) (hle : s0.heap.size ≤ le) (hdr : s0.heap.size ≤ dr) (hn : q ≠ la ∧ q ≠ le ∧ q ≠ dr ∧ la ≠ le ∧ la ≠ dr ∧ le ≠ dr)
    (h0 : zAt G q (zOb 0 [.int (iI 7), .ref la, .ref le, .ref dr, .int (iI 0), .long (lI 0)]) H1) (h1 : zAt G la (zOb 8 [.int (iI 0), .ref (G.2 12), .int (iI 0)]) H1) (h3 : zAt G le (zOb 8 [.int (iI 0), .ref (G.2 12), .int (iI 0)]) H1) (h5 : zAt G dr (zOb 1 [.int (iI 0)]) H1) :
    HC G s0 (ro0 G q la le dr) st0 H1 ∧ ∀ z, FC G (ro0 G q la le dr) st0 z → z = q ∨ z = la ∨ z = le ∨ z = dr := by
  have h12 := hG12 hE
  refine ⟨⟨st0_ok, ⟨fun a ha => ?_, fun a b ha hb hab hne => ?_⟩, ⟨⟨0, h0⟩, ⟨0, h1, Or.inl ⟨rfl, rfl⟩⟩, ⟨0, h3, Or.inl ⟨rfl, rfl⟩⟩, ⟨0, h5⟩⟩, fun k hk => absurd hk (Nat.not_lt_zero k), fun j hj => absurd hj (Nat.not_lt_zero j)⟩, fun z hz => ?_⟩
  · obtain ⟨κ, hk, rfl⟩ := dom0_inv ha
    rcases (show κ = 0 ∨ κ = 1 ∨ κ = 2 ∨ κ = 3 ∨ κ = 4 ∨ κ = 5 by omega) with rfl | rfl | rfl | rfl | rfl | rfl
    · exact Or.inl hq
    · exact Or.inl hla
    · exact Or.inr ⟨rfl, Or.inl rfl⟩
    · exact Or.inl hle
    · exact Or.inr ⟨rfl, Or.inr (Or.inl rfl)⟩
    · exact Or.inl hdr
  · obtain ⟨κ, hk, rfl⟩ := dom0_inv ha
    obtain ⟨κ2, hk2, rfl⟩ := dom0_inv hb
    obtain ⟨n1, n2, n3, n4, n5, n6⟩ := hn
    rcases (show κ = 0 ∨ κ = 1 ∨ κ = 2 ∨ κ = 3 ∨ κ = 4 ∨ κ = 5 by omega) with rfl | rfl | rfl | rfl | rfl | rfl <;> rcases (show κ2 = 0 ∨ κ2 = 1 ∨ κ2 = 2 ∨ κ2 = 3 ∨ κ2 = 4 ∨ κ2 = 5 by omega) with rfl | rfl | rfl | rfl | rfl | rfl <;> first | rfl | (exfalso; exact hne rfl) | (exfalso; simp only [ro0] at hab hne; simp at hab hne; omega)
  · obtain ⟨hz1, a, ha, rfl⟩ := hz
    obtain ⟨κ, hk, rfl⟩ := dom0_inv ha
    rcases (show κ = 0 ∨ κ = 1 ∨ κ = 2 ∨ κ = 3 ∨ κ = 4 ∨ κ = 5 by omega) with rfl | rfl | rfl | rfl | rfl | rfl
    · exact Or.inl rfl
    · exact Or.inr (Or.inl rfl)
    · exact absurd rfl hz1
    · exact Or.inr (Or.inr (Or.inl rfl))
    · exact absurd rfl hz1
    · exact Or.inr (Or.inr (Or.inr rfl))
theorem HM.born {l : Launch} {G : zG} {s0 : State} {H1 : Heap} {q la le : Nat} (hE : zE l s0 G) (hq : s0.heap.size ≤ q) (hla : s0.heap.size ≤ la) (hle : s0.heap.size ≤ le) (hn : q ≠ la ∧ q ≠ le ∧ la ≠ le)
    (h0 : zAt G q (zOb 2 [.int (iI 0), .int (iI 7), .int (iI 0), .ref la, .ref le]) H1) (h1 : zAt G la (zOb 8 [.int (iI 0), .ref (G.2 12), .int (iI 0)]) H1) (h3 : zAt G le (zOb 8 [.int (iI 0), .ref (G.2 12), .int (iI 0)]) H1) :
    HM G s0 (ro0 G q la le 0) st0 0 H1 ∧ ∀ z, FM G (ro0 G q la le 0) st0 z → z = q ∨ z = la ∨ z = le := by
  have h12 := hG12 hE
  refine ⟨⟨st0_ok, ⟨fun a ha => ?_, fun a b ha hb hab hne => ?_⟩, ⟨h0, ⟨0, h1, Or.inl ⟨rfl, rfl⟩⟩, ⟨0, h3, Or.inl ⟨rfl, rfl⟩⟩⟩, fun k hk => absurd hk (Nat.not_lt_zero k), fun j hj => absurd hj (Nat.not_lt_zero j)⟩, fun z hz => ?_⟩
  · obtain ⟨κ, hk, rfl⟩ := dmM0_inv ha
    rcases (show κ = 0 ∨ κ = 1 ∨ κ = 2 ∨ κ = 3 ∨ κ = 4 by omega) with rfl | rfl | rfl | rfl | rfl
    · exact Or.inl hq
    · exact Or.inl hla
    · exact Or.inr ⟨rfl, Or.inl rfl⟩
    · exact Or.inl hle
    · exact Or.inr ⟨rfl, Or.inr (Or.inl rfl)⟩
  · obtain ⟨κ, hk, rfl⟩ := dmM0_inv ha
    obtain ⟨κ2, hk2, rfl⟩ := dmM0_inv hb
    obtain ⟨n1, n2, n3⟩ := hn
    rcases (show κ = 0 ∨ κ = 1 ∨ κ = 2 ∨ κ = 3 ∨ κ = 4 by omega) with rfl | rfl | rfl | rfl | rfl <;> rcases (show κ2 = 0 ∨ κ2 = 1 ∨ κ2 = 2 ∨ κ2 = 3 ∨ κ2 = 4 by omega) with rfl | rfl | rfl | rfl | rfl <;> first | rfl | (exfalso; exact hne rfl) | (exfalso; simp only [ro0] at hab hne; simp at hab hne; omega)
  · obtain ⟨hz1, a, ha, rfl⟩ := hz
    obtain ⟨κ, hk, rfl⟩ := dmM0_inv ha
    rcases (show κ = 0 ∨ κ = 1 ∨ κ = 2 ∨ κ = 3 ∨ κ = 4 by omega) with rfl | rfl | rfl | rfl | rfl
    · exact Or.inl rfl
    · exact Or.inr (Or.inl rfl)
    · exact absurd rfl hz1
    · exact Or.inr (Or.inr rfl)
    · exact absurd rfl hz1
abbrev rm_m_X2_init : Room := { frames := 1, cells := 0, slots := 0, locals := 20 }
set_option maxHeartbeats 4000000 in
theorem m_X2_init {l : Launch} {s0 : State} {G : zG} (hE : zE l s0 G) (H0 : Heap) (hO : zO s0 H0) (q : Nat)  : zM l s0 yX2_init cX2_init 1 (none : Option FieldType) rm_m_X2_init [.ref q] H0 M0 (rv (fun _ => True)) := by
  refine z_met hE (by decide +kernel) (Nat.le_of_ble_eq_true rfl) ?_
  intro pp ee ss mm args below meth cd Q ls hC hml hrt hlk hnm hH hQ hS hl
  have hx := hC.x
  have hb := hC.b
  have hl : lv_has ls 1 [(0, .ref q)] := hl
  have hP : va_P G.1 zCl [] H0 := va_nil
  have hD : va_D (zA M0 H0) [] := va_nilD
  refine lv_aload_n hx hb dX2_init_0 rfl (lv_at hl 0 rfl) ?_
  refine W.objInit hx hb hC.o (hC.t _ q144) (hC.t _ q108) (hC.t _ q109) rfl (by rw [hml]; exact hl.1) rfl dX2_init_1 (Nat.le_of_ble_eq_true rfl) (Nat.le_of_ble_eq_true rfl) ?_
  refine W.eq (g2 := F0 mm 4 ls []) rfl ?_
  exact z_vret hC hrt hlk hQ hS ⟨zle (z := 0) rfl (by omega), zle (z := 0) rfl (by omega)⟩ ⟨rfl, trivial⟩ dX2_init_4

abbrev rm_m_X4_init : Room := { frames := 1, cells := 0, slots := 0, locals := 20 }
set_option maxHeartbeats 4000000 in
theorem m_X4_init {l : Launch} {s0 : State} {G : zG} (hE : zE l s0 G) (H0 : Heap) (hO : zO s0 H0) (q : Nat)  : zM l s0 yX4_init cX4_init 1 (none : Option FieldType) rm_m_X4_init [.ref q] H0 M0 (rv (fun _ => True)) := by
  refine z_met hE (by decide +kernel) (Nat.le_of_ble_eq_true rfl) ?_
  intro pp ee ss mm args below meth cd Q ls hC hml hrt hlk hnm hH hQ hS hl
  have hx := hC.x
  have hb := hC.b
  have hl : lv_has ls 1 [(0, .ref q)] := hl
  have hP : va_P G.1 zCl [] H0 := va_nil
  have hD : va_D (zA M0 H0) [] := va_nilD
  refine lv_aload_n hx hb dX4_init_0 rfl (lv_at hl 0 rfl) ?_
  refine W.objInit hx hb hC.o (hC.t _ q885) (hC.t _ q108) (hC.t _ q109) rfl (by rw [hml]; exact hl.1) rfl dX4_init_1 (Nat.le_of_ble_eq_true rfl) (Nat.le_of_ble_eq_true rfl) ?_
  refine W.eq (g2 := F0 mm 4 ls []) rfl ?_
  exact z_vret hC hrt hlk hQ hS ⟨zle (z := 0) rfl (by omega), zle (z := 0) rfl (by omega)⟩ ⟨rfl, trivial⟩ dX4_init_4

abbrev rm_m_X1_init : Room := { frames := 4, cells := 3, slots := 7, locals := 80 }
set_option maxHeartbeats 4000000 in
theorem m_X1_init {l : Launch} {s0 : State} {G : zG} (hE : zE l s0 G) (H0 : Heap) (hO : zO s0 H0) (q : Nat) (hq : s0.heap.size ≤ q) (h : zAt G q (zOb 0 [.int (iI 0), .null, .null, .null, .int (iI 0), .long (lI 0)]) H0) : zM l s0 yX1_init cX1_init 1 (none : Option FieldType) rm_m_X1_init [.ref q] H0 (fun z => z = q) (rv (fun h1 => ∃ ρ, ρ (0, 0, 0) = q ∧ HC G s0 ρ st0 h1 ∧ zMn (ρ (5, 0, 0)) {} h1 ∧ ∀ z, FC G ρ st0 z → z = q ∨ H0.size ≤ z)) := by
  refine z_met hE (by decide +kernel) (Nat.le_of_ble_eq_true rfl) ?_
  intro pp ee ss mm args below meth cd Q ls hC hml hrt hlk hnm hH hQ hS hl
  have hx := hC.x
  have hb := hC.b
  have hl : lv_has ls 1 [(0, .ref q)] := hl
  have hP : va_P G.1 zCl [(q, zOb 0 [.int (iI 0), .null, .null, .null, .int (iI 0), .long (lI 0)])] H0 := zP1 h
  have hD : va_D (zA (fun z => z = q) H0) [(q, zOb 0 [.int (iI 0), .null, .null, .null, .int (iI 0), .long (lI 0)])] := zD1 (Or.inl rfl)
  have hMo : ∀ z, (fun z => z = q) z → s0.heap.size ≤ z := fun z hz => hz ▸ hq
  refine lv_aload_n hx hb dX1_init_0 rfl (lv_at hl 0 rfl) ?_
  refine W.objInit hx hb hC.o (hC.t _ q107) (hC.t _ q108) (hC.t _ q109) rfl (by rw [hml]; exact hl.1) rfl dX1_init_1 (Nat.le_of_ble_eq_true rfl) (Nat.le_of_ble_eq_true rfl) ?_
  refine W.eq (g2 := F0 mm 4 ls []) rfl ?_
  refine lv_aload_n hx hb dX1_init_4 rfl (lv_at hl 0 rfl) ?_
  refine lv_bipush (v := iI 7) hx hb dX1_init_5 (by decide) ?_
  refine z_put hC hP hD hS 0 (k := 0) rfl rfl in_X1 tyX1_ok nmX1 (by decide) q149 (fun _ h => h) rfl rfl rfl rfl (Nat.le_of_ble_eq_true rfl) (ws' := [(q, zOb 0 [.int (iI 7), .null, .null, .null, .int (iI 0), .long (lI 0)])]) rfl dX1_init_7 (fun H1 locs hP hD hS => ?_)
  refine lv_aload_n hx hb dX1_init_10 rfl (lv_at hl 0 rfl) ?_
  refine z_new hC hP hD hS (c1 := 1) (s1 := 3) (fs := [.int (iI 0), .null, .int (iI 0)]) (ci := 8) rfl in_J2 tyJ2_ok q110 q111 q65 df_J2 ⟨zle (z := 3) rfl (by omega), zle (z := 7) rfl (by omega)⟩ ⟨by omega, by omega⟩ (ws' := fun q2 => [(q, zOb 0 [.int (iI 7), .null, .null, .null, .int (iI 0), .long (lI 0)]), (q2, zOb 8 [.int (iI 0), .null, .int (iI 0)])]) (fun _ => rfl) dX1_init_11 (fun q2 H3 hq0q2 hq1q2 hP hD hS hF => ?_)
  refine lv_dup hx hb dX1_init_14 rfl ?_
  refine z_go 1 3 (z_runI (As := []) (rest := [.ref q2, .ref q]) hC hml hl.1 (m_J2_init hE H3 (hO.ext (zS_F hS) hMo) q2 (Nat.le_trans hO.1 hq0q2) (hP 1 _ rfl)) q114 q65 q112 q113 rfl nd_J2_init rfl rfl (Nat.le_of_ble_eq_true rfl) ⟨Nat.le_of_ble_eq_true rfl, Nat.le_of_ble_eq_true rfl⟩ ⟨zfit (k := 0) (z := 3) rfl rfl (by omega), zfit (k := 0) (z := 7) rfl rfl (by omega)⟩ dX1_init_15) ⟨zad (k := 0) rfl (by omega), zad (k := 0) rfl (by omega)⟩ hS (fun q z => by subst z; exact hD.2 1 _ rfl) (fun r H4 locs hp hF hS1 => ?_)
  obtain ⟨rfl, hm⟩ := hp
  obtain ⟨hP, hD⟩ := zjm hP hD hF 1 rfl hm
  have hP : va_P G.1 zCl ([(q, zOb 0 [.int (iI 7), .null, .null, .null, .int (iI 0), .long (lI 0)]), (q2, zOb 8 [.int (iI 0), .ref (G.2 12), .int (iI 0)])]) H4 := hP
  have hD : va_D (zA (fun z => z = q) H0) ([(q, zOb 0 [.int (iI 7), .null, .null, .null, .int (iI 0), .long (lI 0)]), (q2, zOb 8 [.int (iI 0), .ref (G.2 12), .int (iI 0)])]) := hD
  have hS := hS1
  refine z_putF hC hnm hP hD hS 0 (k := 1) rfl rfl in_X1 tyX1_ok nmX1 (by decide) q152 (fun _ h => h) rfl rfl rfl rfl rfl (Nat.le_of_ble_eq_true rfl) (ws' := [(q, zOb 0 [.int (iI 7), .ref q2, .null, .null, .int (iI 0), .long (lI 0)]), (q2, zOb 8 [.int (iI 0), .ref (G.2 12), .int (iI 0)])]) rfl dX1_init_18 (fun H5 locs hP hD hS => ?_)
  refine lv_aload_n hx hb dX1_init_21 rfl (lv_at hl 0 rfl) ?_
  refine z_new hC hP hD hS (c1 := 2) (s1 := 6) (fs := [.int (iI 0), .null, .int (iI 0)]) (ci := 8) rfl in_J2 tyJ2_ok q110 q111 q65 df_J2 ⟨zle (z := 3) rfl (by omega), zle (z := 7) rfl (by omega)⟩ ⟨by omega, by omega⟩ (ws' := fun q6 => [(q, zOb 0 [.int (iI 7), .ref q2, .null, .null, .int (iI 0), .long (lI 0)]), (q2, zOb 8 [.int (iI 0), .ref (G.2 12), .int (iI 0)]), (q6, zOb 8 [.int (iI 0), .null, .int (iI 0)])]) (fun _ => rfl) dX1_init_22 (fun q6 H7 hq0q6 hq1q6 hP hD hS hF => ?_)
  refine lv_dup hx hb dX1_init_25 rfl ?_
  refine z_go 2 6 (z_runI (As := []) (rest := [.ref q6, .ref q]) hC hml hl.1 (m_J2_init hE H7 (hO.ext (zS_F hS) hMo) q6 (Nat.le_trans hO.1 hq0q6) (hP 2 _ rfl)) q114 q65 q112 q113 rfl nd_J2_init rfl rfl (Nat.le_of_ble_eq_true rfl) ⟨Nat.le_of_ble_eq_true rfl, Nat.le_of_ble_eq_true rfl⟩ ⟨zfit (k := 0) (z := 3) rfl rfl (by omega), zfit (k := 0) (z := 7) rfl rfl (by omega)⟩ dX1_init_26) ⟨zad (k := 0) rfl (by omega), zad (k := 0) rfl (by omega)⟩ hS (fun q z => by subst z; exact hD.2 2 _ rfl) (fun r H8 locs hp hF hS1 => ?_)
  obtain ⟨rfl, hm⟩ := hp
  obtain ⟨hP, hD⟩ := zjm hP hD hF 2 rfl hm
  have hP : va_P G.1 zCl ([(q, zOb 0 [.int (iI 7), .ref q2, .null, .null, .int (iI 0), .long (lI 0)]), (q2, zOb 8 [.int (iI 0), .ref (G.2 12), .int (iI 0)]), (q6, zOb 8 [.int (iI 0), .ref (G.2 12), .int (iI 0)])]) H8 := hP
  have hD : va_D (zA (fun z => z = q) H0) ([(q, zOb 0 [.int (iI 7), .ref q2, .null, .null, .int (iI 0), .long (lI 0)]), (q2, zOb 8 [.int (iI 0), .ref (G.2 12), .int (iI 0)]), (q6, zOb 8 [.int (iI 0), .ref (G.2 12), .int (iI 0)])]) := hD
  have hS := hS1
  refine z_putF hC hnm hP hD hS 0 (k := 2) rfl rfl in_X1 tyX1_ok nmX1 (by decide) q153 (fun _ h => h) rfl rfl rfl rfl rfl (Nat.le_of_ble_eq_true rfl) (ws' := [(q, zOb 0 [.int (iI 7), .ref q2, .ref q6, .null, .int (iI 0), .long (lI 0)]), (q2, zOb 8 [.int (iI 0), .ref (G.2 12), .int (iI 0)]), (q6, zOb 8 [.int (iI 0), .ref (G.2 12), .int (iI 0)])]) rfl dX1_init_29 (fun H9 locs hP hD hS => ?_)
  refine lv_aload_n hx hb dX1_init_32 rfl (lv_at hl 0 rfl) ?_
  refine z_newM hC hP hD hS (c1 := 3) (s1 := 7) (fs := [.int (iI 0)]) (ci := 1) rfl in_X2 tyX2_ok q139 q140 q66 df_X2 ⟨zle (z := 3) rfl (by omega), zle (z := 7) rfl (by omega)⟩ ⟨by omega, by omega⟩ (ws' := fun q10 => [(q, zOb 0 [.int (iI 7), .ref q2, .ref q6, .null, .int (iI 0), .long (lI 0)]), (q2, zOb 8 [.int (iI 0), .ref (G.2 12), .int (iI 0)]), (q6, zOb 8 [.int (iI 0), .ref (G.2 12), .int (iI 0)]), (q10, zOb 1 [.int (iI 0)])]) (fun _ => rfl) dX1_init_33 (fun q10 H11 hMn hq0q10 hq1q10 hP hD hS hF => ?_)
  refine lv_dup hx hb dX1_init_36 rfl ?_
  refine z_go 3 7 (z_runIN (As := []) (rest := [.ref q10, .ref q]) hC hml hl.1 (z_mon (m_X2_init hE H11 (hO.ext (zS_F hS) hMo) q10 )) q143 q66 q141 q142 rfl nd_X2_init rfl rfl (Nat.le_of_ble_eq_true rfl) ⟨Nat.le_of_ble_eq_true rfl, Nat.le_of_ble_eq_true rfl⟩ ⟨zfit (k := 0) (z := 3) rfl rfl (by omega), zfit (k := 0) (z := 7) rfl rfl (by omega)⟩ dX1_init_37) ⟨zad (k := 0) rfl (by omega), zad (k := 0) rfl (by omega)⟩ hS (fun _ z => z.elim) (fun r H12 locs hp hF hS1 => ?_)
  obtain ⟨⟨rfl, -⟩, hmk⟩ := hp
  have hP := zpk hP hF
  have hP : va_P G.1 zCl ([(q, zOb 0 [.int (iI 7), .ref q2, .ref q6, .null, .int (iI 0), .long (lI 0)]), (q2, zOb 8 [.int (iI 0), .ref (G.2 12), .int (iI 0)]), (q6, zOb 8 [.int (iI 0), .ref (G.2 12), .int (iI 0)]), (q10, zOb 1 [.int (iI 0)])]) H12 := hP
  have hD : va_D (zA (fun z => z = q) H0) ([(q, zOb 0 [.int (iI 7), .ref q2, .ref q6, .null, .int (iI 0), .long (lI 0)]), (q2, zOb 8 [.int (iI 0), .ref (G.2 12), .int (iI 0)]), (q6, zOb 8 [.int (iI 0), .ref (G.2 12), .int (iI 0)]), (q10, zOb 1 [.int (iI 0)])]) := hD
  have hS := hS1
  have hMn := hMn.mk hmk
  refine z_putFO hC hnm hP hD hS 0 (k := 3) rfl rfl in_X1 tyX1_ok nmX1 (by decide) q154 (fun _ h => h) rfl rfl rfl rfl rfl (Nat.le_of_ble_eq_true rfl) (ws' := [(q, zOb 0 [.int (iI 7), .ref q2, .ref q6, .ref q10, .int (iI 0), .long (lI 0)]), (q2, zOb 8 [.int (iI 0), .ref (G.2 12), .int (iI 0)]), (q6, zOb 8 [.int (iI 0), .ref (G.2 12), .int (iI 0)]), (q10, zOb 1 [.int (iI 0)])]) rfl dX1_init_40 (fun H13 locs hP hD hS hF => ?_)
  have hap : ∀ i j : Nat, i < 4 → j < 4 → i ≠ j → ∀ x y : Nat × va_E, [(q, zOb 0 [.int (iI 7), .ref q2, .ref q6, .ref q10, .int (iI 0), .long (lI 0)]), (q2, zOb 8 [.int (iI 0), .ref (G.2 12), .int (iI 0)]), (q6, zOb 8 [.int (iI 0), .ref (G.2 12), .int (iI 0)]), (q10, zOb 1 [.int (iI 0)])][i]? = some x → [(q, zOb 0 [.int (iI 7), .ref q2, .ref q6, .ref q10, .int (iI 0), .long (lI 0)]), (q2, zOb 8 [.int (iI 0), .ref (G.2 12), .int (iI 0)]), (q6, zOb 8 [.int (iI 0), .ref (G.2 12), .int (iI 0)]), (q10, zOb 1 [.int (iI 0)])][j]? = some y → x.1 ≠ y.1 := fun i j _ _ hij x y hx hy e => hij (hD.1 i j x y hx hy e)
  have hnq : q2 ≠ q ∧ q6 ≠ q ∧ q10 ≠ q := ⟨fun e => absurd (hD.1 1 0 _ _ rfl rfl e) (by decide), fun e => absurd (hD.1 2 0 _ _ rfl rfl e) (by decide), fun e => absurd (hD.1 3 0 _ _ rfl rfl e) (by decide)⟩
  have hg : H0.size ≤ q2 ∧ H0.size ≤ q6 ∧ H0.size ≤ q10 := ⟨hq0q2, hq0q6, hq0q10⟩
  have hbn := HC.born hE hq (Nat.le_trans hO.1 hg.1) (Nat.le_trans hO.1 hg.2.1) (Nat.le_trans hO.1 hg.2.2) ⟨fun e => hnq.1 e.symm, fun e => hnq.2.1 e.symm, fun e => hnq.2.2 e.symm, fun e => absurd (hD.1 1 2 _ _ rfl rfl e) (by decide), fun e => absurd (hD.1 1 3 _ _ rfl rfl e) (by decide), fun e => absurd (hD.1 2 3 _ _ rfl rfl e) (by decide)⟩ (hP 0 _ rfl) (hP 1 _ rfl) (hP 2 _ rfl) (hP 3 _ rfl)
  have hMn := hMn.ext hF (fun z => hnq.2.2 z)
  exact z_vret hC hrt hlk hQ hS ⟨zle (z := 3) rfl (by omega), zle (z := 7) rfl (by omega)⟩ ⟨rfl, _, rfl, hbn.1, hMn, fun z hz => (hbn.2 z hz).imp id (fun w => by rcases w with w | w | w <;> omega)⟩ dX1_init_43

abbrev rm_m_X3_init : Room := { frames := 4, cells := 2, slots := 6, locals := 80 }
set_option maxHeartbeats 4000000 in
theorem m_X3_init {l : Launch} {s0 : State} {G : zG} (hE : zE l s0 G) (H0 : Heap) (hO : zO s0 H0) (q : Nat) (hq : s0.heap.size ≤ q) (h : zAt G q (zOb 2 [.int (iI 0), .int (iI 0), .int (iI 0), .null, .null]) H0) : zM l s0 yX3_init cX3_init 1 (none : Option FieldType) rm_m_X3_init [.ref q] H0 (fun z => z = q) (rv (fun h1 => ∃ μ, μ (0, 0, 0) = q ∧ HM G s0 μ st0 0 h1 ∧ ∀ z, FM G μ st0 z → z = q ∨ H0.size ≤ z)) := by
  refine z_met hE (by decide +kernel) (Nat.le_of_ble_eq_true rfl) ?_
  intro pp ee ss mm args below meth cd Q ls hC hml hrt hlk hnm hH hQ hS hl
  have hx := hC.x
  have hb := hC.b
  have hl : lv_has ls 1 [(0, .ref q)] := hl
  have hP : va_P G.1 zCl [(q, zOb 2 [.int (iI 0), .int (iI 0), .int (iI 0), .null, .null])] H0 := zP1 h
  have hD : va_D (zA (fun z => z = q) H0) [(q, zOb 2 [.int (iI 0), .int (iI 0), .int (iI 0), .null, .null])] := zD1 (Or.inl rfl)
  have hMo : ∀ z, (fun z => z = q) z → s0.heap.size ≤ z := fun z hz => hz ▸ hq
  refine lv_aload_n hx hb dX3_init_0 rfl (lv_at hl 0 rfl) ?_
  refine W.objInit hx hb hC.o (hC.t _ q1492) (hC.t _ q108) (hC.t _ q109) rfl (by rw [hml]; exact hl.1) rfl dX3_init_1 (Nat.le_of_ble_eq_true rfl) (Nat.le_of_ble_eq_true rfl) ?_
  refine W.eq (g2 := F0 mm 4 ls []) rfl ?_
  refine lv_aload_n hx hb dX3_init_4 rfl (lv_at hl 0 rfl) ?_
  refine lv_bipush (v := iI 7) hx hb dX3_init_5 (by decide) ?_
  refine z_put hC hP hD hS 0 (k := 1) rfl rfl in_X3 tyX3_ok nmX3 (by decide) q1496 (fun _ h => h) rfl rfl rfl rfl (Nat.le_of_ble_eq_true rfl) (ws' := [(q, zOb 2 [.int (iI 0), .int (iI 7), .int (iI 0), .null, .null])]) rfl dX3_init_7 (fun H1 locs hP hD hS => ?_)
  refine lv_aload_n hx hb dX3_init_10 rfl (lv_at hl 0 rfl) ?_
  refine z_new hC hP hD hS (c1 := 1) (s1 := 3) (fs := [.int (iI 0), .null, .int (iI 0)]) (ci := 8) rfl in_J2 tyJ2_ok q1493 q111 q65 df_J2 ⟨zle (z := 2) rfl (by omega), zle (z := 6) rfl (by omega)⟩ ⟨by omega, by omega⟩ (ws' := fun q2 => [(q, zOb 2 [.int (iI 0), .int (iI 7), .int (iI 0), .null, .null]), (q2, zOb 8 [.int (iI 0), .null, .int (iI 0)])]) (fun _ => rfl) dX3_init_11 (fun q2 H3 hq0q2 hq1q2 hP hD hS hF => ?_)
  refine lv_dup hx hb dX3_init_14 rfl ?_
  refine z_go 1 3 (z_runI (As := []) (rest := [.ref q2, .ref q]) hC hml hl.1 (m_J2_init hE H3 (hO.ext (zS_F hS) hMo) q2 (Nat.le_trans hO.1 hq0q2) (hP 1 _ rfl)) q114 q65 q1494 q113 rfl nd_J2_init rfl rfl (Nat.le_of_ble_eq_true rfl) ⟨Nat.le_of_ble_eq_true rfl, Nat.le_of_ble_eq_true rfl⟩ ⟨zfit (k := 0) (z := 2) rfl rfl (by omega), zfit (k := 0) (z := 6) rfl rfl (by omega)⟩ dX3_init_15) ⟨zad (k := 0) rfl (by omega), zad (k := 0) rfl (by omega)⟩ hS (fun q z => by subst z; exact hD.2 1 _ rfl) (fun r H4 locs hp hF hS1 => ?_)
  obtain ⟨rfl, hm⟩ := hp
  obtain ⟨hP, hD⟩ := zjm hP hD hF 1 rfl hm
  have hP : va_P G.1 zCl ([(q, zOb 2 [.int (iI 0), .int (iI 7), .int (iI 0), .null, .null]), (q2, zOb 8 [.int (iI 0), .ref (G.2 12), .int (iI 0)])]) H4 := hP
  have hD : va_D (zA (fun z => z = q) H0) ([(q, zOb 2 [.int (iI 0), .int (iI 7), .int (iI 0), .null, .null]), (q2, zOb 8 [.int (iI 0), .ref (G.2 12), .int (iI 0)])]) := hD
  have hS := hS1
  refine z_putF hC hnm hP hD hS 0 (k := 3) rfl rfl in_X3 tyX3_ok nmX3 (by decide) q1499 (fun _ h => h) rfl rfl rfl rfl rfl (Nat.le_of_ble_eq_true rfl) (ws' := [(q, zOb 2 [.int (iI 0), .int (iI 7), .int (iI 0), .ref q2, .null]), (q2, zOb 8 [.int (iI 0), .ref (G.2 12), .int (iI 0)])]) rfl dX3_init_18 (fun H5 locs hP hD hS => ?_)
  refine lv_aload_n hx hb dX3_init_21 rfl (lv_at hl 0 rfl) ?_
  refine z_new hC hP hD hS (c1 := 2) (s1 := 6) (fs := [.int (iI 0), .null, .int (iI 0)]) (ci := 8) rfl in_J2 tyJ2_ok q1493 q111 q65 df_J2 ⟨zle (z := 2) rfl (by omega), zle (z := 6) rfl (by omega)⟩ ⟨by omega, by omega⟩ (ws' := fun q6 => [(q, zOb 2 [.int (iI 0), .int (iI 7), .int (iI 0), .ref q2, .null]), (q2, zOb 8 [.int (iI 0), .ref (G.2 12), .int (iI 0)]), (q6, zOb 8 [.int (iI 0), .null, .int (iI 0)])]) (fun _ => rfl) dX3_init_22 (fun q6 H7 hq0q6 hq1q6 hP hD hS hF => ?_)
  refine lv_dup hx hb dX3_init_25 rfl ?_
  refine z_go 2 6 (z_runI (As := []) (rest := [.ref q6, .ref q]) hC hml hl.1 (m_J2_init hE H7 (hO.ext (zS_F hS) hMo) q6 (Nat.le_trans hO.1 hq0q6) (hP 2 _ rfl)) q114 q65 q1494 q113 rfl nd_J2_init rfl rfl (Nat.le_of_ble_eq_true rfl) ⟨Nat.le_of_ble_eq_true rfl, Nat.le_of_ble_eq_true rfl⟩ ⟨zfit (k := 0) (z := 2) rfl rfl (by omega), zfit (k := 0) (z := 6) rfl rfl (by omega)⟩ dX3_init_26) ⟨zad (k := 0) rfl (by omega), zad (k := 0) rfl (by omega)⟩ hS (fun q z => by subst z; exact hD.2 2 _ rfl) (fun r H8 locs hp hF hS1 => ?_)
  obtain ⟨rfl, hm⟩ := hp
  obtain ⟨hP, hD⟩ := zjm hP hD hF 2 rfl hm
  have hP : va_P G.1 zCl ([(q, zOb 2 [.int (iI 0), .int (iI 7), .int (iI 0), .ref q2, .null]), (q2, zOb 8 [.int (iI 0), .ref (G.2 12), .int (iI 0)]), (q6, zOb 8 [.int (iI 0), .ref (G.2 12), .int (iI 0)])]) H8 := hP
  have hD : va_D (zA (fun z => z = q) H0) ([(q, zOb 2 [.int (iI 0), .int (iI 7), .int (iI 0), .ref q2, .null]), (q2, zOb 8 [.int (iI 0), .ref (G.2 12), .int (iI 0)]), (q6, zOb 8 [.int (iI 0), .ref (G.2 12), .int (iI 0)])]) := hD
  have hS := hS1
  refine z_putF hC hnm hP hD hS 0 (k := 4) rfl rfl in_X3 tyX3_ok nmX3 (by decide) q1500 (fun _ h => h) rfl rfl rfl rfl rfl (Nat.le_of_ble_eq_true rfl) (ws' := [(q, zOb 2 [.int (iI 0), .int (iI 7), .int (iI 0), .ref q2, .ref q6]), (q2, zOb 8 [.int (iI 0), .ref (G.2 12), .int (iI 0)]), (q6, zOb 8 [.int (iI 0), .ref (G.2 12), .int (iI 0)])]) rfl dX3_init_29 (fun H9 locs hP hD hS => ?_)
  have hnq : q2 ≠ q ∧ q6 ≠ q := ⟨fun e => absurd (hD.1 1 0 _ _ rfl rfl e) (by decide), fun e => absurd (hD.1 2 0 _ _ rfl rfl e) (by decide)⟩
  have hg : H0.size ≤ q2 ∧ H0.size ≤ q6 := ⟨hq0q2, hq0q6⟩
  have hbn := HM.born hE hq (Nat.le_trans hO.1 hg.1) (Nat.le_trans hO.1 hg.2) ⟨fun e => hnq.1 e.symm, fun e => hnq.2 e.symm, fun e => absurd (hD.1 1 2 _ _ rfl rfl e) (by decide)⟩ (hP 0 _ rfl) (hP 1 _ rfl) (hP 2 _ rfl)
  exact z_vret hC hrt hlk hQ hS ⟨zle (z := 2) rfl (by omega), zle (z := 6) rfl (by omega)⟩ ⟨rfl, _, rfl, hbn.1, fun z hz => (hbn.2 z hz).imp id (fun w => by rcases w with w | w <;> omega)⟩ dX3_init_32

