/-! THE CLASS: powers, sizes, what may not be there -/
set_option maxRecDepth 100000

theorem fst_hit {P : Nat → Bool} {f k : Nat} (h : P k = true) (hf : 0 < f) : fst P f k = k := by
  cases f with
  | zero => omega
  | succ f => simp [fst, h]
theorem fst_miss {P : Nat → Bool} {f k : Nat} (h : P k = false) (hf : 0 < f) : fst P f k = fst P (f - 1) (k + 1) := by
  cases f with
  | zero => omega
  | succ f => simp [fst, h]
theorem zeV_t {n : Nat} {v : Nat → Int} (h : szV v n = 0) : zeV n v = true := by simp [zeV, h]
theorem zeV_f {n : Nat} {v : Nat → Int} (h : szV v n ≠ 0) : zeV n v = false := by simp [zeV, h]
theorem paV_0 {n : Nat} {v : Nat → Int} (h : szV v n = 0) : paV n v = true := by simp [paV, h]
theorem paV_1 {n : Nat} {v : Nat → Int} (h : szV v n = 1) (h0 : v 0 ≠ 0) : paV n v = true := by simp [paV, h, h0]
theorem paV_f {n : Nat} {v : Nat → Int} (h : szV v n ≠ 0) (h1 : szV v n ≠ 1 ∨ v 0 = 0) : paV n v = false := by
  rcases h1 with h1 | h1 <;> simp [paV, h, h1]
theorem b2i_t {b : Bool} (h : b = true) : 1 = b2i b := by rw [h]; rfl
theorem b2i_f {b : Bool} (h : b = false) : 0 = b2i b := by rw [h]; rfl
def lsV (v : Nat → Int) : Nat → Int
  | 0 => -1
  | n + 1 => if v n = 0 then lsV v n else n
theorem lsV_in (v : Nat → Int) : ∀ n : Nat, -1 ≤ lsV v n ∧ lsV v n < n
  | 0 => by simp [lsV]
  | n + 1 => by have := lsV_in v n; simp only [lsV]; split <;> omega
def vcV (v : Nat → Int) : Nat → Bool
  | 0 => true
  | n + 1 => vcV v n && (v n == 0 || bitc n == 1)
theorem vcV_f {v : Nat → Int} {k : Nat} (h0 : v k ≠ 0) (h1 : bitc k ≠ 1) : ∀ n : Nat, k < n → vcV v n = false
  | 0, h => absurd h (Nat.not_lt_zero k)
  | n + 1, h => by
    by_cases e : k = n
    · subst e; simp [vcV, h0, h1]
    · simp [vcV, vcV_f h0 h1 n (by omega)]
def sqV (p : Int) (n kd : Nat) (sg : Nat → Nat → Int) (v : Nat → Int) : Int := if kd = 0 ∨ zeV n v = true ∨ vcV v n = false then -1 else tmV p n sg v v 0
def fpP (p : Int) (n : Nat) (sg : Nat → Nat → Int) (v : Nat → Int) (one k : Nat) : Bool := if one = 0 then zeV n (pwV p n sg v k) else paV n (pwV p n sg v k) && pwV p n sg v k 0 == 1
theorem b2i_z {b : Bool} (h : b2i b = 0) : b = false := by cases b; rfl; cases h
theorem b2i_nz {b : Bool} (h : b2i b ≠ 0) : b = true := by cases b; exact absurd rfl h; rfl
theorem fp_zt {p : Int} {n one k : Nat} {sg : Nat → Nat → Int} {v : Nat → Int} (h1 : one = 0) (h : zeV n (pwV p n sg v k) = true) : fpP p n sg v one k = true := by unfold fpP; rw [if_pos h1, h]
theorem fp_zf {p : Int} {n one k : Nat} {sg : Nat → Nat → Int} {v : Nat → Int} (h1 : one = 0) (h : zeV n (pwV p n sg v k) = false) : fpP p n sg v one k = false := by unfold fpP; rw [if_pos h1, h]
theorem fp_ot {p : Int} {n one k : Nat} {sg : Nat → Nat → Int} {v : Nat → Int} (h1 : one ≠ 0) (h : paV n (pwV p n sg v k) = true) (h2 : pwV p n sg v k 0 = 1) : fpP p n sg v one k = true := by unfold fpP; rw [if_neg h1, h, h2]; rfl
theorem fp_of {p : Int} {n one k : Nat} {sg : Nat → Nat → Int} {v : Nat → Int} (h1 : one ≠ 0) (h : paV n (pwV p n sg v k) = false ∨ pwV p n sg v k 0 ≠ 1) : fpP p n sg v one k = false := by
  unfold fpP
  rw [if_neg h1]
  rcases h with h | h <;> simp [h]
theorem vcV_s {v : Nat → Int} {k : Nat} (h : vcV v k = true) (h1 : v k = 0 ∨ bitc k = 1) : vcV v (k + 1) = true := by
  rcases h1 with h1 | h1 <;> simp [vcV, h, h1]
section C3
variable {p : Program} {l : Launch} {e : Env} {R : Room} {s : State} {m : MethodId} {args : Array Value} {below : List Frame} {meth : Method} {c : Code} {H : Heap} {locs : List Loc} {cells slots : Nat} {Q : State → Prop}
variable {cc : ByteArray} {pc : Nat} {ls : Array Slot} {rest : List Value} {s0 : State} {G : zG} {own : String} {A : Nat → Prop} {H0 : Heap} {ws : va_W}
theorem z_getE (h : zC p l s0 G s m args c own cc) (ho : zO s0 H) {index : Nat} (hq : Cond.fieldLink own index "java/util/Optional" "value" "Ljava/lang/Object;" ∈ lw_all) (d : decode cc pc = .ok (.getfield index, 3)) (kk : W p l e R s m args below meth c H locs cells slots Q (F0 m (pc + 3) ls (.null :: rest))) : W p l e R s m args below meth c H locs cells slots Q (F0 m pc ls (.ref (G.2 13) :: rest)) := by
  obtain ⟨cf, k1, fi, f, cell, h1, h2, h3, h4, h5, h6⟩ := zOF h.w ho h.e.2.2.2.1.2.2.1.2.2
  exact W.getf h.x h.b h.o (h.t _ hq) h1 h2 h3 h4 (v := .null) h5 rfl rfl d kk
theorem z_re (hE : zE l s0 G) {s : State} {H : Heap} (hW : s0.WarmedH s.vm) (ho : zO s0 H) : zRv s H (G.2 13) "java/util/Optional" := by
  obtain ⟨cell, h1, h2, h3, -⟩ := zOo hW ho hE.2.2.2.1.2.2.1.2.1
  exact ⟨cell, h1, h2, h3⟩
/-- System.arraycopy between two int arrays, from an array that is only read -/
theorem z_copyi (h : zC p l s0 G s m args c own cc) (hml : c.maxLocals = ls.size) {index : Nat} (hlink : Cond.methodLink own index arraycopyName ∈ lw_all)
    (hP : va_P G.1 zCl ws H) (hD : va_D A ws) (hS : va_S A H0 H locs) (q1 : Nat) {a0 a n : Nat} {f g : Nat → Int} {ws' : va_W} (ha0 : zAt G a0 (zI G n f) H) (ha1 : ws[q1]? = some (a, zI G n g)) {y : Int} (hy : y = (n : Int)) (hn : n ≤ 16) (hw : ws.set q1 (a, zI G n f) = ws')
    (hframes : 1 ≤ R.frames) (hlocals : (rest.map fun v => v.category).sum + (nativeFrameWords "java/lang/System" "arraycopy" 5 + 11) ≤ R.locals) (hdg : decode cc pc = .ok (.invokestatic index, 3))
    (kk : ∀ (H1 : Heap) (locs1 : List Loc), va_P G.1 zCl ws' H1 → va_D A ws' → va_S A H0 H1 locs1 → W p l e R s m args below meth c H1 locs1 cells slots Q (F0 m (pc + 3) ls rest)) : W p l e R s m args below meth c H locs cells slots Q (F0 m pc ls (.int (iI y) :: .int (iI 0) :: .ref a :: .int (iI 0) :: .ref a0 :: rest)) := by
  subst hy
  subst hw
  have cl : (iI ((n : Nat) : Int)).toNatClampNeg = n := iI_cl (by omega)
  have cl0 : (iI 0).toNatClampNeg = 0 := rfl
  have nl : ¬ iI ((n : Nat) : Int) < 0 := by rw [iI_l0 ⟨by omega, by omega⟩]; omega
  intro T hT X
  have hc0 : H[a0]? = some (vp_cell (G.2 0) (n, .inl (fun j => iI (f j)))) := ha0
  have hc1 : H[a]? = some (vp_cell (G.2 0) (n, .inl (fun j => iI (g j)))) := hP q1 _ ha1
  obtain ⟨-, k0, hk0, cm0, hkk0⟩ := (h.k.2 0 _ rfl).1 n (fun j => .int (iI (f j)))
  obtain ⟨vm', X', step⟩ := X.arraycopy h.x h.o (h.t _ hlink) (h.t _ q629) (h.t _ q628) (h.t _ q81) (src := a0) (dst := a) (cs := vp_cell (G.2 0) (n, .inl (fun j => iI (f j)))) (cd := vp_cell (G.2 0) (n, .inl (fun j => iI (g j)))) (srcPos := iI 0) (destPos := iI 0) (n := iI ((n : Nat) : Int)) (by rw [hT]; exact hc0) (by rw [hT]; exact hc1)
    (fun _ h => by cases h) (fun _ h => by cases h) (fun h => by cases h) (fun h => by cases h) hk0 hk0 hkk0 hkk0 (by simp [refKind]) (by decide) (by decide) nl
    (by show ¬ _ > ((arrV (G.2 0) n (fun j => .int (iI (f j)))).slots.size : Int); rw [arrV_size, show (iI 0).toInt = 0 from rfl, iI_toInt ⟨by omega, by omega⟩]; omega)
    (by show ¬ _ > ((arrV (G.2 0) n (fun j => .int (iI (g j)))).slots.size : Int); rw [arrV_size, show (iI 0).toInt = 0 from rfl, iI_toInt ⟨by omega, by omega⟩]; omega)
    (fun vm₁ _ i hi => by
      rw [cl] at hi
      have e : (vp_cell (G.2 0) (n, .inl (fun j => iI (f j)))).slots.getD ((iI 0).toNatClampNeg + i) .null = .int (iI (f i)) := by
        show (arrV (G.2 0) n (fun j => .int (iI (f j)))).slots.getD _ _ = _
        rw [cl0, Nat.zero_add, Array.getD_eq_getD_getElem?, arrV_read _ _ hi]
        rfl
      exact ⟨by rw [e]; rfl, by rw [e]; exact trivial⟩)
    (g := F0 m pc ls (.int (iI ((n : Nat) : Int)) :: .int (iI 0) :: .ref a :: .int (iI 0) :: .ref a0 :: rest)) rfl (by rw [hml]) (rest := rest) rfl (by rw [h.b]; exact hdg) hframes (by show 2 * 0 + _ + _ ≤ _; omega)
  have e1 : copied (vp_cell (G.2 0) (n, .inl (fun j => iI (f j)))) (vp_cell (G.2 0) (n, .inl (fun j => iI (g j)))) (iI 0) (iI 0) (iI ((n : Nat) : Int)) = vp_cell (G.2 0) (n, .inl (fun j => iI (f j))) := by
    refine (va_copied (fun z => .int z) (G.2 0) (G.2 0) (fun j => iI (f j)) (fun j => iI (g j)) (by rw [cl, cl0]; omega)).trans ?_
    rw [cl, cl0]
    rw [vp_cell_i]
    exact arrV_congr (fun j hj => by unfold va_cpy; rw [if_pos (by omega)]; simp)
  rw [e1] at X' step
  have hl : a < H.size := (Array.getElem?_eq_some_iff.mp hc1).1
  have hheap : ((T.setVm vm').setCell a (vp_cell (G.2 0) (n, .inl (fun j => iI (f j))))).heap = H.setIfInBounds a (vp_cell (G.2 0) (n, .inl (fun j => iI (f j)))) := by rw [← hT]; rfl
  have oq : ∀ q : Nat, q ≠ a → (H.setIfInBounds a (vp_cell (G.2 0) (n, .inl (fun j => iI (f j)))))[q]? = H[q]? := fun q hq => by simp [Array.getElem?_setIfInBounds, Ne.symm hq]
  obtain ⟨t, a1, b1⟩ := kk _ _ (hP.set hD ha1 (show (H.setIfInBounds a _)[a]? = some _ by simp [Array.getElem?_setIfInBounds, hl]) oq) (hD.set ha1) ⟨by simp; exact hS.1, fun q g1 g2 => by
      rw [oq q (fun e => g2 (by rw [e]; exact hD.2 q1 _ ha1))]
      exact hS.2.1 q g1 g2, fun q hq => by
      rcases List.mem_append.mp hq with h | h
      · exact hS.2.2 q h
      · obtain ⟨z, -, hz⟩ := List.mem_map.mp h
        rw [← hz]
        exact hD.2 q1 _ ha1⟩ _ hheap X'
  exact ⟨t, step t a1, b1⟩
end C3

abbrev rm_m_X7_size : Room := { frames := 0, cells := 0, slots := 0, locals := 0 }
set_option maxHeartbeats 4000000 in
theorem m_X7_size {l : Launch} {s0 : State} {G : zG} (hE : zE l s0 G) (H0 : Heap) (hO : zO s0 H0) (x g : Nat) (p : Int) (d n kd : Nat) (dv : Nat → Int) (sg : Nat → Nat → Int) (a r : Nat) (v : Nat → Int) (hA : zAg G x g p d n kd dv sg H0) (h : zEl G x g a r n v H0) (hv : rw_ok p n v) : zM l s0 yX7_size cX7_size 6 (some FieldType.int) rm_m_X7_size [.ref a] H0 M0 (ri (fun y _ => y = szV v n)) := by
  refine z_met hE (by decide +kernel) (Nat.le_of_ble_eq_true rfl) ?_
  intro pp ee ss mm args below meth cd Q ls hC hml hrt hlk hnm hH hQ hS hl
  have hx := hC.x
  have hb := hC.b
  have hl : lv_has ls 6 [(0, .ref a)] := hl
  have hP : va_P G.1 zCl [] H0 := va_nil
  have hD : va_D (zA M0 H0) [] := va_nilD
  obtain ⟨la, le, dr, kn, sm, dl, da, ml, so, dm, ro, hx0, hg0, hL0, hso, hro, hfa⟩ := id hA
  obtain ⟨hp, hd4, hn2, hkd, hdv, hsg⟩ := hfa
  obtain ⟨hn16, hp7⟩ := hA.n
  refine lv_iconst (v := iI 0) hx hb dX7_size_0 rfl ?_
  refine lv_istore_n (lv' := [(1, .int (iI 0)), (0, .ref a)]) hx hb dX7_size_1 rfl hl (by decide) rfl (fun ls hl => ?_)
  refine lv_aload_n hx hb dX7_size_2 rfl (lv_at hl 1 rfl) ?_
  refine z_get hC (k := 1) rfl in_X7 (zo hS h.1 id) (by decide) q324 (fun _ h => h) rfl dX7_size_3 ?_
  refine lv_astore_n (lv' := [(2, .ref r), (1, .int (iI 0)), (0, .ref a)]) hx hb dX7_size_6 rfl hl (by decide) rfl (fun ls hl => ?_)
  refine lv_aload_n hx hb dX7_size_7 rfl (lv_at hl 0 rfl) ?_
  refine z_alen hC 0 (zo hS h.2 id) rfl (y := ((n : Nat) : Int)) rfl dX7_size_8 ?_
  refine lv_istore_n (lv' := [(3, .int (iI ((n : Nat) : Int))), (2, .ref r), (1, .int (iI 0)), (0, .ref a)]) hx hb dX7_size_9 rfl hl (by decide) rfl (fun ls hl => ?_)
  refine lv_iconst (v := iI 0) hx hb dX7_size_10 rfl ?_
  refine lv_istore (lv' := [(4, .int (iI 0)), (3, .int (iI ((n : Nat) : Int))), (2, .ref r), (1, .int (iI 0)), (0, .ref a)]) hx hb dX7_size_11 hl (by decide) rfl (fun ls hl => ?_)
  have lp1 : ∀ (dlp1 : Nat) (k : Nat) (c : Nat), n - k = dlp1 → (k ≤ n) → (c = szV v k) → ∀ (H2 : Heap) (locs : List Loc) (ls : Array Slot), va_P G.1 zCl ([]) H2 → va_D (zA M0 H0) ([]) → va_S (zA M0 H0) H0 H2 locs → lv_has ls 6 [(4, .int (iI ((k : Nat) : Int))), (1, .int (iI ((c : Nat) : Int))), (3, .int (iI ((n : Nat) : Int))), (2, .ref r), (0, .ref a)] → W pp l ee rm_m_X7_size ss mm args below meth cd H2 locs 0 0 Q (F0 mm 13 ls []) := by
    intro dlp1
    induction dlp1 using Nat.strongRecOn with
    | ind dlp1 ihlp1 =>
      intro k c hdlp1 hk hc H2 locs ls  hP hD hS hl
      refine lv_iload hx hb dX7_size_13 (lv_at hl 0 rfl) ?_
      refine lv_iload_n hx hb dX7_size_15 rfl (lv_at hl 2 rfl) ?_
      refine z_cge (tgt := 44) hx hb dX7_size_16 (by decide) (by omega) (fun c3 => ?_) (fun c3 => ?_)
      · have ek : k = n := by omega
        refine lv_iload_n hx hb dX7_size_44 rfl (lv_at hl 1 rfl) ?_
        exact z_iret hC hrt hlk hQ hS ⟨zle (z := 0) rfl (by omega), zle (z := 0) rfl (by omega)⟩ ⟨_, rfl, by rw [hc, ek]⟩ dX7_size_45
      · have hvk := hv k (by omega)
        have hcl := szV_le v k
        refine lv_aload_n hx hb dX7_size_19 rfl (lv_at hl 3 rfl) ?_
        refine lv_iload hx hb dX7_size_20 (lv_at hl 0 rfl) ?_
        refine z_iald hC (zo hS h.2 id) (k := k) rfl (by omega) (y := v k) rfl dX7_size_22 ?_
        refine lv_istore (lv' := [(5, .int (iI (v k))), (4, .int (iI ((k : Nat) : Int))), (1, .int (iI ((c : Nat) : Int))), (3, .int (iI ((n : Nat) : Int))), (2, .ref r), (0, .ref a)]) hx hb dX7_size_23 hl (by decide) rfl (fun ls hl => ?_)
        refine lv_iload_n hx hb dX7_size_25 rfl (lv_at hl 2 rfl) ?_
        refine lv_iload hx hb dX7_size_26 (lv_at hl 0 rfl) ?_
        refine z_zne (tgt := 35) hx hb dX7_size_28 (by decide) (by omega) (fun c4 => ?_) (fun c4 => ?_)
        · refine lv_iconst (v := iI 1) hx hb dX7_size_35 rfl ?_
          refine z_add hx hb (z := ((c : Nat) : Int) + 1) dX7_size_36 rfl ?_
          refine z_top (b := ((c + 1 : Nat) : Int)) (by omega) ?_
          refine lv_istore_n (lv' := [(1, .int (iI ((c + 1 : Nat) : Int))), (5, .int (iI (v k))), (4, .int (iI ((k : Nat) : Int))), (3, .int (iI ((n : Nat) : Int))), (2, .ref r), (0, .ref a)]) hx hb dX7_size_37 rfl hl (by decide) rfl (fun ls hl => ?_)
          refine z_iinc (z := ((k + 1 : Nat) : Int)) (lv' := [(4, .int (iI ((k + 1 : Nat) : Int))), (1, .int (iI ((c + 1 : Nat) : Int))), (5, .int (iI (v k))), (3, .int (iI ((n : Nat) : Int))), (2, .ref r), (0, .ref a)]) hx hb dX7_size_38 hl (k := 2) rfl (by omega) (by decide) rfl (fun ls hl => ?_)
          refine lv_goto (tgt := 13) hx hb dX7_size_41 (by decide) ?_
          exact W.widen (by omega) (by omega) (ihlp1 (n - (k + 1)) (by omega) (k + 1) (c + 1) rfl (by omega) (by simp only [szV]; rw [if_neg (by omega)]; omega) _ _ _  hP hD hS (lv_sub hl [0, 1, 3, 4, 5] rfl))
        · refine lv_iconst (v := iI 0) hx hb dX7_size_31 rfl ?_
          refine lv_goto (tgt := 36) hx hb dX7_size_32 (by decide) ?_
          refine z_add hx hb (z := ((c : Nat) : Int) + 0) dX7_size_36 rfl ?_
          refine z_top (b := ((c + 0 : Nat) : Int)) (by omega) ?_
          refine lv_istore_n (lv' := [(1, .int (iI ((c + 0 : Nat) : Int))), (5, .int (iI (v k))), (4, .int (iI ((k : Nat) : Int))), (3, .int (iI ((n : Nat) : Int))), (2, .ref r), (0, .ref a)]) hx hb dX7_size_37 rfl hl (by decide) rfl (fun ls hl => ?_)
          refine z_iinc (z := ((k + 1 : Nat) : Int)) (lv' := [(4, .int (iI ((k + 1 : Nat) : Int))), (1, .int (iI ((c + 0 : Nat) : Int))), (5, .int (iI (v k))), (3, .int (iI ((n : Nat) : Int))), (2, .ref r), (0, .ref a)]) hx hb dX7_size_38 hl (k := 2) rfl (by omega) (by decide) rfl (fun ls hl => ?_)
          refine lv_goto (tgt := 13) hx hb dX7_size_41 (by decide) ?_
          exact W.widen (by omega) (by omega) (ihlp1 (n - (k + 1)) (by omega) (k + 1) (c + 0) rfl (by omega) (by simp only [szV]; rw [if_pos (by omega)]; omega) _ _ _  hP hD hS (lv_sub hl [0, 1, 3, 4, 5] rfl))
  exact W.widen (by omega) (by omega) (lp1 _ 0 0 rfl (Nat.zero_le _) rfl _ _ _  hP hD hS (lv_sub hl [0, 3, 1, 2, 4] rfl))

abbrev rm_m_X7_isZero : Room := { frames := 1, cells := 0, slots := 0, locals := 25 }
set_option maxHeartbeats 4000000 in
theorem m_X7_isZero {l : Launch} {s0 : State} {G : zG} (hE : zE l s0 G) (H0 : Heap) (hO : zO s0 H0) (x g : Nat) (p : Int) (d n kd : Nat) (dv : Nat → Int) (sg : Nat → Nat → Int) (a r : Nat) (v : Nat → Int) (hA : zAg G x g p d n kd dv sg H0) (h : zEl G x g a r n v H0) (hv : rw_ok p n v) : zM l s0 yX7_isZero cX7_isZero 1 (some FieldType.boolean) rm_m_X7_isZero [.ref a] H0 M0 (ri (fun y _ => y = b2i (zeV n v))) := by
  refine z_met hE (by decide +kernel) (Nat.le_of_ble_eq_true rfl) ?_
  intro pp ee ss mm args below meth cd Q ls hC hml hrt hlk hnm hH hQ hS hl
  have hx := hC.x
  have hb := hC.b
  have hl : lv_has ls 1 [(0, .ref a)] := hl
  have hP : va_P G.1 zCl [] H0 := va_nil
  have hD : va_D (zA M0 H0) [] := va_nilD
  obtain ⟨la, le, dr, kn, sm, dl, da, ml, so, dm, ro, hx0, hg0, hL0, hso, hro, hfa⟩ := id hA
  obtain ⟨hp, hd4, hn2, hkd, hdv, hsg⟩ := hfa
  obtain ⟨hn16, hp7⟩ := hA.n
  have hs := szV_le v n
  refine lv_aload_n hx hb dX7_isZero_0 rfl (lv_at hl 0 rfl) ?_
  refine z_go 0 0 (z_runV (As := []) (rest := []) hC hml hl.1 (m_X7_size hE H0 (hO.ext0 (zS_F hS)) x g p d n kd dv sg a r (v)  (hA.ext0 (zS_F hS)) (h.ext0 (zS_F hS)) hv ) (lw_V q261 q222 q223 q92 q224) rfl nd_X7_size rfl (z_rv hC (ci := 6) rfl (zo hS h.1 id) rfl) rfl (Nat.le_of_ble_eq_true rfl) ⟨Nat.le_of_ble_eq_true rfl, Nat.le_of_ble_eq_true rfl⟩ ⟨zfit (k := 0) (z := 0) rfl rfl (by omega), zfit (k := 0) (z := 0) rfl rfl (by omega)⟩ dX7_isZero_1) ⟨zad (k := 0) rfl (by omega), zad (k := 0) rfl (by omega)⟩ hS (fun _ z => z.elim) (fun r H1 locs hp hF hS1 => ?_)
  obtain ⟨_, rfl, rfl⟩ := hp
  have hP := zpk hP hF
  have hP : va_P G.1 zCl ([]) H1 := hP
  have hD : va_D (zA M0 H0) ([]) := hD
  have hS := hS1
  refine z_zne (tgt := 11) hx hb dX7_isZero_4 (by decide) (by omega) (fun c2 => ?_) (fun c2 => ?_)
  · refine lv_iconst (v := iI 0) hx hb dX7_isZero_11 rfl ?_
    exact z_zret hC hrt hlk hQ hS ⟨zle (z := 0) rfl (by omega), zle (z := 0) rfl (by omega)⟩ (by omega) ⟨_, rfl, b2i_f (zeV_f (by omega))⟩ dX7_isZero_12
  · refine lv_iconst (v := iI 1) hx hb dX7_isZero_7 rfl ?_
    refine lv_goto (tgt := 12) hx hb dX7_isZero_8 (by decide) ?_
    exact z_zret hC hrt hlk hQ hS ⟨zle (z := 0) rfl (by omega), zle (z := 0) rfl (by omega)⟩ (by omega) ⟨_, rfl, b2i_t (zeV_t (by omega))⟩ dX7_isZero_12

abbrev rm_m_X7_isPlain : Room := { frames := 1, cells := 0, slots := 0, locals := 25 }
set_option maxHeartbeats 4000000 in
theorem m_X7_isPlain {l : Launch} {s0 : State} {G : zG} (hE : zE l s0 G) (H0 : Heap) (hO : zO s0 H0) (x g : Nat) (p : Int) (d n kd : Nat) (dv : Nat → Int) (sg : Nat → Nat → Int) (a r : Nat) (v : Nat → Int) (hA : zAg G x g p d n kd dv sg H0) (h : zEl G x g a r n v H0) (hv : rw_ok p n v) : zM l s0 yX7_isPlain cX7_isPlain 1 (some FieldType.boolean) rm_m_X7_isPlain [.ref a] H0 M0 (ri (fun y _ => y = b2i (paV n v))) := by
  refine z_met hE (by decide +kernel) (Nat.le_of_ble_eq_true rfl) ?_
  intro pp ee ss mm args below meth cd Q ls hC hml hrt hlk hnm hH hQ hS hl
  have hx := hC.x
  have hb := hC.b
  have hl : lv_has ls 1 [(0, .ref a)] := hl
  have hP : va_P G.1 zCl [] H0 := va_nil
  have hD : va_D (zA M0 H0) [] := va_nilD
  obtain ⟨la, le, dr, kn, sm, dl, da, ml, so, dm, ro, hx0, hg0, hL0, hso, hro, hfa⟩ := id hA
  obtain ⟨hp, hd4, hn2, hkd, hdv, hsg⟩ := hfa
  obtain ⟨hn16, hp7⟩ := hA.n
  have hs := szV_le v n
  have hv0 := hv 0 (by omega)
  refine lv_aload_n hx hb dX7_isPlain_0 rfl (lv_at hl 0 rfl) ?_
  refine z_go 0 0 (z_runV (As := []) (rest := []) hC hml hl.1 (m_X7_size hE H0 (hO.ext0 (zS_F hS)) x g p d n kd dv sg a r (v)  (hA.ext0 (zS_F hS)) (h.ext0 (zS_F hS)) hv ) (lw_V q261 q222 q223 q92 q224) rfl nd_X7_size rfl (z_rv hC (ci := 6) rfl (zo hS h.1 id) rfl) rfl (Nat.le_of_ble_eq_true rfl) ⟨Nat.le_of_ble_eq_true rfl, Nat.le_of_ble_eq_true rfl⟩ ⟨zfit (k := 0) (z := 0) rfl rfl (by omega), zfit (k := 0) (z := 0) rfl rfl (by omega)⟩ dX7_isPlain_1) ⟨zad (k := 0) rfl (by omega), zad (k := 0) rfl (by omega)⟩ hS (fun _ z => z.elim) (fun r H1 locs hp hF hS1 => ?_)
  obtain ⟨_, rfl, rfl⟩ := hp
  have hP := zpk hP hF
  have hP : va_P G.1 zCl ([]) H1 := hP
  have hD : va_D (zA M0 H0) ([]) := hD
  have hS := hS1
  refine z_zeq (tgt := 24) hx hb dX7_isPlain_4 (by decide) (by omega) (fun c2 => ?_) (fun c2 => ?_)
  · refine lv_iconst (v := iI 1) hx hb dX7_isPlain_24 rfl ?_
    refine lv_goto (tgt := 29) hx hb dX7_isPlain_25 (by decide) ?_
    exact z_zret hC hrt hlk hQ hS ⟨zle (z := 0) rfl (by omega), zle (z := 0) rfl (by omega)⟩ (by omega) ⟨_, rfl, b2i_t (paV_0 (by omega))⟩ dX7_isPlain_29
  · refine lv_aload_n hx hb dX7_isPlain_7 rfl (lv_at hl 0 rfl) ?_
    refine z_go 0 0 (z_runV (As := []) (rest := []) hC hml hl.1 (m_X7_size hE H1 (hO.ext0 (zS_F hS)) x g p d n kd dv sg a r (v)  (hA.ext0 (zS_F hS)) (h.ext0 (zS_F hS)) hv ) (lw_V q261 q222 q223 q92 q224) rfl nd_X7_size rfl (z_rv hC (ci := 6) rfl (zo hS h.1 id) rfl) rfl (Nat.le_of_ble_eq_true rfl) ⟨Nat.le_of_ble_eq_true rfl, Nat.le_of_ble_eq_true rfl⟩ ⟨zfit (k := 0) (z := 0) rfl rfl (by omega), zfit (k := 0) (z := 0) rfl rfl (by omega)⟩ dX7_isPlain_8) ⟨zad (k := 0) rfl (by omega), zad (k := 0) rfl (by omega)⟩ hS (fun _ z => z.elim) (fun r H3 locs hp hF hS1 => ?_)
    obtain ⟨_, rfl, rfl⟩ := hp
    have hP := zpk hP hF
    have hP : va_P G.1 zCl ([]) H3 := hP
    have hD : va_D (zA M0 H0) ([]) := hD
    have hS := hS1
    refine lv_iconst (v := iI 1) hx hb dX7_isPlain_11 rfl ?_
    refine z_cne (tgt := 28) hx hb dX7_isPlain_12 (by decide) (by omega) (fun c4 => ?_) (fun c4 => ?_)
    · refine lv_iconst (v := iI 0) hx hb dX7_isPlain_28 rfl ?_
      exact z_zret hC hrt hlk hQ hS ⟨zle (z := 0) rfl (by omega), zle (z := 0) rfl (by omega)⟩ (by omega) ⟨_, rfl, b2i_f (paV_f (by omega) (Or.inl (by omega)))⟩ dX7_isPlain_29
    · refine lv_aload_n hx hb dX7_isPlain_15 rfl (lv_at hl 0 rfl) ?_
      refine z_get hC (k := 1) rfl in_X7 (zo hS h.1 id) (by decide) q324 (fun _ h => h) rfl dX7_isPlain_16 ?_
      refine lv_iconst (v := iI 0) hx hb dX7_isPlain_19 rfl ?_
      refine z_iald hC (zo hS h.2 id) (k := 0) rfl (by omega) (y := v 0) rfl dX7_isPlain_20 ?_
      refine z_zeq (tgt := 28) hx hb dX7_isPlain_21 (by decide) (by omega) (fun c5 => ?_) (fun c5 => ?_)
      · refine lv_iconst (v := iI 0) hx hb dX7_isPlain_28 rfl ?_
        exact z_zret hC hrt hlk hQ hS ⟨zle (z := 0) rfl (by omega), zle (z := 0) rfl (by omega)⟩ (by omega) ⟨_, rfl, b2i_f (paV_f (by omega) (Or.inr (by omega)))⟩ dX7_isPlain_29
      · refine lv_iconst (v := iI 1) hx hb dX7_isPlain_24 rfl ?_
        refine lv_goto (tgt := 29) hx hb dX7_isPlain_25 (by decide) ?_
        exact z_zret hC hrt hlk hQ hS ⟨zle (z := 0) rfl (by omega), zle (z := 0) rfl (by omega)⟩ (by omega) ⟨_, rfl, b2i_t (paV_1 (by omega) (by omega))⟩ dX7_isPlain_29

abbrev rm_m_X7_isSame : Room := { frames := 4, cells := 2, slots := 19, locals := 86 }
set_option maxHeartbeats 4000000 in
theorem m_X7_isSame {l : Launch} {s0 : State} {G : zG} (hE : zE l s0 G) (H0 : Heap) (hO : zO s0 H0) (x g : Nat) (p : Int) (d n kd : Nat) (dv : Nat → Int) (sg : Nat → Nat → Int) (a r : Nat) (v : Nat → Int) (b s : Nat) (w : Nat → Int) (hA : zAg G x g p d n kd dv sg H0) (h : zEl G x g a r n v H0) (hv : rw_ok p n v) (h2 : zEl G x g b s n w H0) (hw : rw_ok p n w) : zM l s0 yX7_isSame cX7_isSame 2 (some FieldType.boolean) rm_m_X7_isSame [.ref a, .ref b] H0 M0 (ri (fun y _ => y = b2i (zeV n (plV p (-1) v w)))) := by
  refine z_met hE (by decide +kernel) (Nat.le_of_ble_eq_true rfl) ?_
  intro pp ee ss mm args below meth cd Q ls hC hml hrt hlk hnm hH hQ hS hl
  have hx := hC.x
  have hb := hC.b
  have hl : lv_has ls 2 [(0, .ref a), (1, .ref b)] := hl
  have hP : va_P G.1 zCl [] H0 := va_nil
  have hD : va_D (zA M0 H0) [] := va_nilD
  obtain ⟨la, le, dr, kn, sm, dl, da, ml, so, dm, ro, hx0, hg0, hL0, hso, hro, hfa⟩ := id hA
  obtain ⟨hp, hd4, hn2, hkd, hdv, hsg⟩ := hfa
  obtain ⟨hn16, hp7⟩ := hA.n
  refine lv_aload_n hx hb dX7_isSame_0 rfl (lv_at hl 0 rfl) ?_
  refine lv_aload_n hx hb dX7_isSame_1 rfl (lv_at hl 1 rfl) ?_
  refine lv_iconst (v := iI (-1)) hx hb dX7_isSame_2 rfl ?_
  refine z_go 2 19 (z_runV (As := [.ref b, .int (iI (-1))]) (rest := []) hC hml hl.1 (m_X7_plus hE H0 (hO.ext0 (zS_F hS)) x g p d n kd dv sg a r (v) b s (w) (-1) (hA.ext0 (zS_F hS)) (h.ext0 (zS_F hS)) hv (h2.ext0 (zS_F hS)) hw (by decide)) (lw_V q517 q518 q519 q92 q520) rfl nd_X7_plus rfl (z_rv hC (ci := 6) rfl (zo hS h.1 id) rfl) rfl (Nat.le_of_ble_eq_true rfl) ⟨Nat.le_of_ble_eq_true rfl, Nat.le_of_ble_eq_true rfl⟩ ⟨zfit (k := 2) (z := 2) rfl rfl (by omega), zfit (k := 19) (z := 19) rfl rfl (by omega)⟩ dX7_isSame_3) ⟨zad (k := 2) rfl (by omega), zad (k := 19) rfl (by omega)⟩ hS (fun _ z => z.elim) (fun r H3 locs hp hF hS1 => ?_)
  obtain ⟨qe1, rfl, re2, hN⟩ := hp
  obtain ⟨hP, hD⟩ := zjn hP hD hS.1 hF hN
  have hP : va_P G.1 zCl ([(qe1, zOb 6 [.ref g, .ref re2, .ref x]), (re2, zI G n (plV p (-1) v w))]) H3 := hP
  have hD : va_D (zA M0 H0) ([(qe1, zOb 6 [.ref g, .ref re2, .ref x]), (re2, zI G n (plV p (-1) v w))]) := hD
  have hS := hS1
  refine z_go 2 19 (z_runV (As := []) (rest := []) hC hml hl.1 (m_X7_isZero hE H3 (hO.ext0 (zS_F hS)) x g p d n kd dv sg qe1 re2 (plV p (-1) v w)  (hA.ext0 (zS_F hS)) ⟨hP 0 _ rfl, hP 1 _ rfl⟩ (plV_ok hp n _ _ _) ) (lw_V q508 q509 q510 q92 q511) rfl nd_X7_isZero rfl (z_rv hC (ci := 6) rfl (hP 0 _ rfl) rfl) rfl (Nat.le_of_ble_eq_true rfl) ⟨Nat.le_of_ble_eq_true rfl, Nat.le_of_ble_eq_true rfl⟩ ⟨zfit (k := 0) (z := 2) rfl rfl (by omega), zfit (k := 0) (z := 19) rfl rfl (by omega)⟩ dX7_isSame_6) ⟨zad (k := 0) rfl (by omega), zad (k := 0) rfl (by omega)⟩ hS (fun _ z => z.elim) (fun r H4 locs hp hF hS1 => ?_)
  obtain ⟨_, rfl, rfl⟩ := hp
  have hP := zpk hP hF
  have hP : va_P G.1 zCl ([(qe1, zOb 6 [.ref g, .ref re2, .ref x]), (re2, zI G n (plV p (-1) v w))]) H4 := hP
  have hD : va_D (zA M0 H0) ([(qe1, zOb 6 [.ref g, .ref re2, .ref x]), (re2, zI G n (plV p (-1) v w))]) := hD
  have hS := hS1
  exact z_zret hC hrt hlk hQ hS ⟨zle (z := 2) rfl (by omega), zle (z := 19) rfl (by omega)⟩ (by unfold b2i; split <;> omega) ⟨_, rfl, rfl⟩ dX7_isSame_9

abbrev rm_m_X7_norm : Room := { frames := 4, cells := 4, slots := 38, locals := 86 }
set_option maxHeartbeats 4000000 in
theorem m_X7_norm {l : Launch} {s0 : State} {G : zG} (hE : zE l s0 G) (H0 : Heap) (hO : zO s0 H0) (x g : Nat) (p : Int) (d n kd : Nat) (dv : Nat → Int) (sg : Nat → Nat → Int) (a r : Nat) (v : Nat → Int) (hA : zAg G x g p d n kd dv sg H0) (h : zEl G x g a r n v H0) (hv : rw_ok p n v) : zM l s0 yX7_norm cX7_norm 1 (some FieldType.int) rm_m_X7_norm [.ref a] H0 M0 (ri (fun y _ => y = tmV p n sg v (cjV p kd v) 0)) := by
  refine z_met hE (by decide +kernel) (Nat.le_of_ble_eq_true rfl) ?_
  intro pp ee ss mm args below meth cd Q ls hC hml hrt hlk hnm hH hQ hS hl
  have hx := hC.x
  have hb := hC.b
  have hl : lv_has ls 1 [(0, .ref a)] := hl
  have hP : va_P G.1 zCl [] H0 := va_nil
  have hD : va_D (zA M0 H0) [] := va_nilD
  obtain ⟨la, le, dr, kn, sm, dl, da, ml, so, dm, ro, hx0, hg0, hL0, hso, hro, hfa⟩ := id hA
  obtain ⟨hp, hd4, hn2, hkd, hdv, hsg⟩ := hfa
  obtain ⟨hn16, hp7⟩ := hA.n
  refine lv_aload_n hx hb dX7_norm_0 rfl (lv_at hl 0 rfl) ?_
  refine lv_aload_n hx hb dX7_norm_1 rfl (lv_at hl 0 rfl) ?_
  refine z_go 2 19 (z_runV (As := []) (rest := [.ref a]) hC hml hl.1 (m_X7_conjugate hE H0 (hO.ext0 (zS_F hS)) x g p d n kd dv sg a r (v)  (hA.ext0 (zS_F hS)) (h.ext0 (zS_F hS)) hv ) (lw_V q311 q312 q313 q92 q314) rfl nd_X7_conjugate rfl (z_rv hC (ci := 6) rfl (zo hS h.1 id) rfl) rfl (Nat.le_of_ble_eq_true rfl) ⟨Nat.le_of_ble_eq_true rfl, Nat.le_of_ble_eq_true rfl⟩ ⟨zfit (k := 2) (z := 4) rfl rfl (by omega), zfit (k := 19) (z := 38) rfl rfl (by omega)⟩ dX7_norm_2) ⟨zad (k := 2) rfl (by omega), zad (k := 19) rfl (by omega)⟩ hS (fun _ z => z.elim) (fun r H3 locs hp hF hS1 => ?_)
  obtain ⟨qe1, rfl, re2, hN⟩ := hp
  obtain ⟨hP, hD⟩ := zjn hP hD hS.1 hF hN
  have hP : va_P G.1 zCl ([(qe1, zOb 6 [.ref g, .ref re2, .ref x]), (re2, zI G n (cjV p kd v))]) H3 := hP
  have hD : va_D (zA M0 H0) ([(qe1, zOb 6 [.ref g, .ref re2, .ref x]), (re2, zI G n (cjV p kd v))]) := hD
  have hS := hS1
  refine z_go 4 38 (z_runV (As := [.ref qe1]) (rest := []) hC hml hl.1 (m_X7_times hE H3 (hO.ext0 (zS_F hS)) x g p d n kd dv sg a r (v) qe1 re2 (cjV p kd v)  (hA.ext0 (zS_F hS)) (h.ext0 (zS_F hS)) hv ⟨hP 0 _ rfl, hP 1 _ rfl⟩ (cjV_ok hp n kd _) ) (lw_V q359 q360 q361 q92 q362) rfl nd_X7_times rfl (z_rv hC (ci := 6) rfl (zo hS h.1 id) rfl) rfl (Nat.le_of_ble_eq_true rfl) ⟨Nat.le_of_ble_eq_true rfl, Nat.le_of_ble_eq_true rfl⟩ ⟨zfit (k := 2) (z := 4) rfl rfl (by omega), zfit (k := 19) (z := 38) rfl rfl (by omega)⟩ dX7_norm_5) ⟨zad (k := 2) rfl (by omega), zad (k := 19) rfl (by omega)⟩ hS (fun _ z => z.elim) (fun r H6 locs hp hF hS1 => ?_)
  obtain ⟨qe4, rfl, re5, hN⟩ := hp
  obtain ⟨hP, hD⟩ := zjn hP hD hS.1 hF hN
  have hP : va_P G.1 zCl ([(qe1, zOb 6 [.ref g, .ref re2, .ref x]), (re2, zI G n (cjV p kd v)), (qe4, zOb 6 [.ref g, .ref re5, .ref x]), (re5, zI G n (tmV p n sg v (cjV p kd v)))]) H6 := hP
  have hD : va_D (zA M0 H0) ([(qe1, zOb 6 [.ref g, .ref re2, .ref x]), (re2, zI G n (cjV p kd v)), (qe4, zOb 6 [.ref g, .ref re5, .ref x]), (re5, zI G n (tmV p n sg v (cjV p kd v)))]) := hD
  have hS := hS1
  refine z_get hC (k := 1) rfl in_X7 (hP 2 _ rfl) (by decide) q324 (fun _ h => h) rfl dX7_norm_8 ?_
  refine lv_iconst (v := iI 0) hx hb dX7_norm_11 rfl ?_
  refine z_iald hC (hP 3 _ rfl) (k := 0) rfl (by omega) (y := (tmV p n sg v (cjV p kd v)) 0) rfl dX7_norm_12 ?_
  exact z_iret hC hrt hlk hQ hS ⟨zle (z := 4) rfl (by omega), zle (z := 38) rfl (by omega)⟩ ⟨_, rfl, rfl⟩ dX7_norm_13

abbrev rm_m_X7_last : Room := { frames := 0, cells := 0, slots := 0, locals := 0 }
set_option maxHeartbeats 4000000 in
theorem m_X7_last {l : Launch} {s0 : State} {G : zG} (hE : zE l s0 G) (H0 : Heap) (hO : zO s0 H0) (x g : Nat) (p : Int) (d n kd : Nat) (dv : Nat → Int) (sg : Nat → Nat → Int) (a r : Nat) (v : Nat → Int) (hA : zAg G x g p d n kd dv sg H0) (h : zEl G x g a r n v H0) (hv : rw_ok p n v) : zM l s0 yX7_last cX7_last 3 (some FieldType.int) rm_m_X7_last [.ref a] H0 M0 (ri (fun y _ => y = lsV v n)) := by
  refine z_met hE (by decide +kernel) (Nat.le_of_ble_eq_true rfl) ?_
  intro pp ee ss mm args below meth cd Q ls hC hml hrt hlk hnm hH hQ hS hl
  have hx := hC.x
  have hb := hC.b
  have hl : lv_has ls 3 [(0, .ref a)] := hl
  have hP : va_P G.1 zCl [] H0 := va_nil
  have hD : va_D (zA M0 H0) [] := va_nilD
  obtain ⟨la, le, dr, kn, sm, dl, da, ml, so, dm, ro, hx0, hg0, hL0, hso, hro, hfa⟩ := id hA
  obtain ⟨hp, hd4, hn2, hkd, hdv, hsg⟩ := hfa
  obtain ⟨hn16, hp7⟩ := hA.n
  refine lv_iconst (v := iI (-1)) hx hb dX7_last_0 rfl ?_
  refine lv_istore_n (lv' := [(1, .int (iI (-1))), (0, .ref a)]) hx hb dX7_last_1 rfl hl (by decide) rfl (fun ls hl => ?_)
  refine lv_iconst (v := iI 0) hx hb dX7_last_2 rfl ?_
  refine lv_istore_n (lv' := [(2, .int (iI 0)), (1, .int (iI (-1))), (0, .ref a)]) hx hb dX7_last_3 rfl hl (by decide) rfl (fun ls hl => ?_)
  have lp1 : ∀ (dlp1 : Nat) (k : Nat) (z : Int), n - k = dlp1 → (k ≤ n) → (z = lsV v k) → ∀ (H2 : Heap) (locs : List Loc) (ls : Array Slot), va_P G.1 zCl ([]) H2 → va_D (zA M0 H0) ([]) → va_S (zA M0 H0) H0 H2 locs → lv_has ls 3 [(2, .int (iI ((k : Nat) : Int))), (1, .int (iI z)), (0, .ref a)] → W pp l ee rm_m_X7_last ss mm args below meth cd H2 locs 0 0 Q (F0 mm 4 ls []) := by
    intro dlp1
    induction dlp1 using Nat.strongRecOn with
    | ind dlp1 ihlp1 =>
      intro k z hdlp1 hk hz H2 locs ls  hP hD hS hl
      refine lv_iload_n hx hb dX7_last_4 rfl (lv_at hl 0 rfl) ?_
      refine lv_aload_n hx hb dX7_last_5 rfl (lv_at hl 2 rfl) ?_
      refine z_get hC (k := 1) rfl in_X7 (zo hS h.1 id) (by decide) q324 (fun _ h => h) rfl dX7_last_6 ?_
      refine z_alen hC 0 (zo hS h.2 id) rfl (y := ((n : Nat) : Int)) rfl dX7_last_9 ?_
      refine z_cge (tgt := 30) hx hb dX7_last_10 (by decide) (by omega) (fun c3 => ?_) (fun c3 => ?_)
      · have ek : k = n := by omega
        refine lv_iload_n hx hb dX7_last_30 rfl (lv_at hl 1 rfl) ?_
        exact z_iret hC hrt hlk hQ hS ⟨zle (z := 0) rfl (by omega), zle (z := 0) rfl (by omega)⟩ ⟨_, rfl, by rw [hz, ek]⟩ dX7_last_31
      · have hvk := hv k (by omega)
        refine lv_aload_n hx hb dX7_last_13 rfl (lv_at hl 2 rfl) ?_
        refine z_get hC (k := 1) rfl in_X7 (zo hS h.1 id) (by decide) q324 (fun _ h => h) rfl dX7_last_14 ?_
        refine lv_iload_n hx hb dX7_last_17 rfl (lv_at hl 0 rfl) ?_
        refine z_iald hC (zo hS h.2 id) (k := k) rfl (by omega) (y := v k) rfl dX7_last_18 ?_
        refine z_zeq (tgt := 24) hx hb dX7_last_19 (by decide) (by omega) (fun c4 => ?_) (fun c4 => ?_)
        · refine z_iinc (z := ((k + 1 : Nat) : Int)) (lv' := [(2, .int (iI ((k + 1 : Nat) : Int))), (1, .int (iI z)), (0, .ref a)]) hx hb dX7_last_24 hl (k := 0) rfl (by omega) (by decide) rfl (fun ls hl => ?_)
          refine lv_goto (tgt := 4) hx hb dX7_last_27 (by decide) ?_
          exact W.widen (by omega) (by omega) (ihlp1 (n - (k + 1)) (by omega) (k + 1) z rfl (by omega) (by simp only [lsV]; rw [if_pos (by omega)]; exact hz) _ _ _  hP hD hS hl)
        · refine lv_iload_n hx hb dX7_last_22 rfl (lv_at hl 0 rfl) ?_
          refine lv_istore_n (lv' := [(1, .int (iI ((k : Nat) : Int))), (2, .int (iI ((k : Nat) : Int))), (0, .ref a)]) hx hb dX7_last_23 rfl hl (by decide) rfl (fun ls hl => ?_)
          refine z_iinc (z := ((k + 1 : Nat) : Int)) (lv' := [(2, .int (iI ((k + 1 : Nat) : Int))), (1, .int (iI ((k : Nat) : Int))), (0, .ref a)]) hx hb dX7_last_24 hl (k := 1) rfl (by omega) (by decide) rfl (fun ls hl => ?_)
          refine lv_goto (tgt := 4) hx hb dX7_last_27 (by decide) ?_
          exact W.widen (by omega) (by omega) (ihlp1 (n - (k + 1)) (by omega) (k + 1) (k : Int) rfl (by omega) (by simp only [lsV]; rw [if_neg (by omega)]) _ _ _  hP hD hS hl)
  exact W.widen (by omega) (by omega) (lp1 _ 0 (-1) rfl (Nat.zero_le _) rfl _ _ _  hP hD hS hl)

abbrev rm_m_X7_power : Room := { frames := 4, cells := 122, slots := 1200, locals := 86 }
set_option maxHeartbeats 4000000 in
theorem m_X7_power {l : Launch} {s0 : State} {G : zG} (hE : zE l s0 G) (H0 : Heap) (hO : zO s0 H0) (x g : Nat) (p : Int) (d n kd : Nat) (dv : Nat → Int) (sg : Nat → Nat → Int) (a r : Nat) (v : Nat → Int) (t : Nat) (hA : zAg G x g p d n kd dv sg H0) (h : zEl G x g a r n v H0) (hv : rw_ok p n v) (ht : t ≤ 60) : zM l s0 yX7_power cX7_power 4 (some (FieldType.object "Versorhall$Element")) rm_m_X7_power [.ref a, .int (iI ((t : Nat) : Int))] H0 M0 (rr (fun q h1 => ∃ r1, NW G H0 h1 [(q, zOb 6 [.ref g, .ref r1, .ref x]), (r1, zI G n (pwV p n sg v t))])) := by
  refine z_met hE (by decide +kernel) (Nat.le_of_ble_eq_true rfl) ?_
  intro pp ee ss mm args below meth cd Q ls hC hml hrt hlk hnm hH hQ hS hl
  have hx := hC.x
  have hb := hC.b
  have hl : lv_has ls 4 [(0, .ref a), (1, .int (iI ((t : Nat) : Int)))] := hl
  have hP : va_P G.1 zCl [] H0 := va_nil
  have hD : va_D (zA M0 H0) [] := va_nilD
  obtain ⟨la, le, dr, kn, sm, dl, da, ml, so, dm, ro, hx0, hg0, hL0, hso, hro, hfa⟩ := id hA
  obtain ⟨hp, hd4, hn2, hkd, hdv, hsg⟩ := hfa
  obtain ⟨hn16, hp7⟩ := hA.n
  refine lv_aload_n hx hb dX7_power_0 rfl (lv_at hl 0 rfl) ?_
  refine z_go 2 19 (z_runV (As := []) (rest := []) hC hml hl.1 (m_X7_one hE H0 (hO.ext0 (zS_F hS)) x g p d n kd dv sg a r (v)  (hA.ext0 (zS_F hS)) (h.ext0 (zS_F hS)) hv ) (lw_V q504 q506 qs15 q92 q507) rfl nd_X7_one rfl (z_rv hC (ci := 6) rfl (zo hS h.1 id) rfl) rfl (Nat.le_of_ble_eq_true rfl) ⟨Nat.le_of_ble_eq_true rfl, Nat.le_of_ble_eq_true rfl⟩ ⟨zfit (k := 2) (z := 122) rfl rfl (by omega), zfit (k := 19) (z := 1200) rfl rfl (by omega)⟩ dX7_power_1) ⟨zad (k := 2) rfl (by omega), zad (k := 19) rfl (by omega)⟩ hS (fun _ z => z.elim) (fun r H3 locs hp hF hS1 => ?_)
  obtain ⟨qe1, rfl, re2, hN⟩ := hp
  obtain ⟨hP, hD⟩ := zjn hP hD hS.1 hF hN
  have hP : va_P G.1 zCl ([(qe1, zOb 6 [.ref g, .ref re2, .ref x]), (re2, zI G n oneV)]) H3 := hP
  have hD : va_D (zA M0 H0) ([(qe1, zOb 6 [.ref g, .ref re2, .ref x]), (re2, zI G n oneV)]) := hD
  have hS := hS1
  refine lv_astore_n (lv' := [(2, .ref qe1), (0, .ref a), (1, .int (iI ((t : Nat) : Int)))]) hx hb dX7_power_4 rfl hl (by decide) rfl (fun ls hl => ?_)
  refine lv_iconst (v := iI 0) hx hb dX7_power_5 rfl ?_
  refine lv_istore_n (lv' := [(3, .int (iI 0)), (2, .ref qe1), (0, .ref a), (1, .int (iI ((t : Nat) : Int)))]) hx hb dX7_power_6 rfl hl (by decide) rfl (fun ls hl => ?_)
  have lp4 : ∀ (dlp4 : Nat) (k : Nat) (q3 : Nat) (r3 : Nat), t - k = dlp4 → (k ≤ t) → ∀ (H5 : Heap) (locs : List Loc) (ls : Array Slot), va_P G.1 zCl ([(q3, zOb 6 [.ref g, .ref r3, .ref x]), (r3, zI G n (pwV p n sg v k))]) H5 → va_D (zA M0 H0) ([(q3, zOb 6 [.ref g, .ref r3, .ref x]), (r3, zI G n (pwV p n sg v k))]) → va_S (zA M0 H0) H0 H5 locs → lv_has ls 4 [(3, .int (iI ((k : Nat) : Int))), (2, .ref q3), (0, .ref a), (1, .int (iI ((t : Nat) : Int)))] → W pp l ee rm_m_X7_power ss mm args below meth cd H5 locs (2 + 2 * k) (19 + 19 * k) Q (F0 mm 7 ls []) := by
    intro dlp4
    induction dlp4 using Nat.strongRecOn with
    | ind dlp4 ihlp4 =>
      intro k q3 r3 hdlp4 hk H5 locs ls  hP hD hS hl
      refine lv_iload_n hx hb dX7_power_7 rfl (lv_at hl 0 rfl) ?_
      refine lv_iload_n hx hb dX7_power_8 rfl (lv_at hl 3 rfl) ?_
      refine z_cge (tgt := 24) hx hb dX7_power_9 (by decide) (by omega) (fun c6 => ?_) (fun c6 => ?_)
      · have ek : k = t := by omega
        refine lv_aload_n hx hb dX7_power_24 rfl (lv_at hl 1 rfl) ?_
        have hP : va_P G.1 zCl ([(q3, zOb 6 [.ref g, .ref r3, .ref x]), (r3, zI G n (pwV p n sg v t))]) H5 := zcI hP 1 rfl (fun j _ => by rw [ek])
        have hD : va_D (zA M0 H0) ([(q3, zOb 6 [.ref g, .ref r3, .ref x]), (r3, zI G n (pwV p n sg v t))]) := hD.set (p := 1) rfl
        exact z_aret hC hrt hlk hQ hS ⟨zle (z := 122) rfl (by omega), zle (z := 1200) rfl (by omega)⟩ ⟨_, rfl, _, hP, zdn hD⟩ dX7_power_25
      · refine lv_aload_n hx hb dX7_power_12 rfl (lv_at hl 1 rfl) ?_
        refine lv_aload_n hx hb dX7_power_13 rfl (lv_at hl 2 rfl) ?_
        refine z_go ((2 + 2 * k) + 2) ((19 + 19 * k) + 19) (z_runV (As := [.ref a]) (rest := []) hC hml hl.1 (m_X7_times hE H5 (hO.ext0 (zS_F hS)) x g p d n kd dv sg q3 r3 (pwV p n sg v k) a r (v)  (hA.ext0 (zS_F hS)) ⟨hP 0 _ rfl, hP 1 _ rfl⟩ (pwV_ok hp n sg v k) (h.ext0 (zS_F hS)) hv ) (lw_V q359 q360 q361 q92 q362) rfl nd_X7_times rfl (z_rv hC (ci := 6) rfl (hP 0 _ rfl) rfl) rfl (Nat.le_of_ble_eq_true rfl) ⟨Nat.le_of_ble_eq_true rfl, Nat.le_of_ble_eq_true rfl⟩ ⟨zfit (k := 2) (z := 122) rfl rfl (by omega), zfit (k := 19) (z := 1200) rfl rfl (by omega)⟩ dX7_power_14) ⟨zad (k := 2) rfl (by omega), zad (k := 19) rfl (by omega)⟩ hS (fun _ z => z.elim) (fun r H9 locs hp hF hS1 => ?_)
        obtain ⟨qe7, rfl, re8, hN⟩ := hp
        obtain ⟨hP, hD⟩ := zjn hP hD hS.1 hF hN
        have hP : va_P G.1 zCl ([(q3, zOb 6 [.ref g, .ref r3, .ref x]), (r3, zI G n (pwV p n sg v k)), (qe7, zOb 6 [.ref g, .ref re8, .ref x]), (re8, zI G n (tmV p n sg (pwV p n sg v k) v))]) H9 := hP
        have hD : va_D (zA M0 H0) ([(q3, zOb 6 [.ref g, .ref r3, .ref x]), (r3, zI G n (pwV p n sg v k)), (qe7, zOb 6 [.ref g, .ref re8, .ref x]), (re8, zI G n (tmV p n sg (pwV p n sg v k) v))]) := hD
        have hS := hS1
        refine lv_astore_n (lv' := [(2, .ref qe7), (3, .int (iI ((k : Nat) : Int))), (0, .ref a), (1, .int (iI ((t : Nat) : Int)))]) hx hb dX7_power_17 rfl hl (by decide) rfl (fun ls hl => ?_)
        refine z_iinc (z := ((k + 1 : Nat) : Int)) (lv' := [(3, .int (iI ((k + 1 : Nat) : Int))), (2, .ref qe7), (0, .ref a), (1, .int (iI ((t : Nat) : Int)))]) hx hb dX7_power_18 hl (k := 1) rfl (by omega) (by decide) rfl (fun ls hl => ?_)
        refine lv_goto (tgt := 7) hx hb dX7_power_21 (by decide) ?_
        exact W.widen (by omega) (by omega) (ihlp4 (t - (k + 1)) (by omega) (k + 1) qe7 re8 rfl (by omega) _ _ _  (hP.sub [2, 3] rfl) (hD.sub [2, 3] (by decide) rfl) hS hl)
  exact W.widen (by omega) (by omega) (lp4 _ 0 qe1 re2 rfl (Nat.zero_le _) _ _ _  hP hD hS hl)

abbrev rm_m_X7_firstPower : Room := { frames := 4, cells := 124, slots := 1220, locals := 86 }
set_option maxHeartbeats 4000000 in
theorem m_X7_firstPower {l : Launch} {s0 : State} {G : zG} (hE : zE l s0 G) (H0 : Heap) (hO : zO s0 H0) (x g : Nat) (p : Int) (d n kd : Nat) (dv : Nat → Int) (sg : Nat → Nat → Int) (a r : Nat) (v : Nat → Int) (t one : Nat) (hA : zAg G x g p d n kd dv sg H0) (h : zEl G x g a r n v H0) (hv : rw_ok p n v) (ht : t ≤ 60) (h1 : one ≤ 1) : zM l s0 yX7_firstPower cX7_firstPower 5 (some FieldType.int) rm_m_X7_firstPower [.ref a, .int (iI ((t : Nat) : Int)), .int (iI ((one : Nat) : Int))] H0 M0 (ri (fun y _ => y = fst (fpP p n sg v one) t 1)) := by
  refine z_met hE (by decide +kernel) (Nat.le_of_ble_eq_true rfl) ?_
  intro pp ee ss mm args below meth cd Q ls hC hml hrt hlk hnm hH hQ hS hl
  have hx := hC.x
  have hb := hC.b
  have hl : lv_has ls 5 [(0, .ref a), (1, .int (iI ((t : Nat) : Int))), (2, .int (iI ((one : Nat) : Int)))] := hl
  have hP : va_P G.1 zCl [] H0 := va_nil
  have hD : va_D (zA M0 H0) [] := va_nilD
  obtain ⟨la, le, dr, kn, sm, dl, da, ml, so, dm, ro, hx0, hg0, hL0, hso, hro, hfa⟩ := id hA
  obtain ⟨hp, hd4, hn2, hkd, hdv, hsg⟩ := hfa
  obtain ⟨hn16, hp7⟩ := hA.n
  refine lv_aload_n hx hb dX7_firstPower_0 rfl (lv_at hl 0 rfl) ?_
  refine z_go 2 19 (z_runV (As := []) (rest := []) hC hml hl.1 (m_X7_one hE H0 (hO.ext0 (zS_F hS)) x g p d n kd dv sg a r (v)  (hA.ext0 (zS_F hS)) (h.ext0 (zS_F hS)) hv ) (lw_V q504 q506 qs15 q92 q507) rfl nd_X7_one rfl (z_rv hC (ci := 6) rfl (zo hS h.1 id) rfl) rfl (Nat.le_of_ble_eq_true rfl) ⟨Nat.le_of_ble_eq_true rfl, Nat.le_of_ble_eq_true rfl⟩ ⟨zfit (k := 2) (z := 124) rfl rfl (by omega), zfit (k := 19) (z := 1220) rfl rfl (by omega)⟩ dX7_firstPower_1) ⟨zad (k := 2) rfl (by omega), zad (k := 19) rfl (by omega)⟩ hS (fun _ z => z.elim) (fun r H3 locs hp hF hS1 => ?_)
  obtain ⟨qe1, rfl, re2, hN⟩ := hp
  obtain ⟨hP, hD⟩ := zjn hP hD hS.1 hF hN
  have hP : va_P G.1 zCl ([(qe1, zOb 6 [.ref g, .ref re2, .ref x]), (re2, zI G n oneV)]) H3 := hP
  have hD : va_D (zA M0 H0) ([(qe1, zOb 6 [.ref g, .ref re2, .ref x]), (re2, zI G n oneV)]) := hD
  have hS := hS1
  refine lv_astore_n (lv' := [(3, .ref qe1), (0, .ref a), (1, .int (iI ((t : Nat) : Int))), (2, .int (iI ((one : Nat) : Int)))]) hx hb dX7_firstPower_4 rfl hl (by decide) rfl (fun ls hl => ?_)
  refine lv_iconst (v := iI 1) hx hb dX7_firstPower_5 rfl ?_
  refine lv_istore (lv' := [(4, .int (iI 1)), (3, .ref qe1), (0, .ref a), (1, .int (iI ((t : Nat) : Int))), (2, .int (iI ((one : Nat) : Int)))]) hx hb dX7_firstPower_6 hl (by decide) rfl (fun ls hl => ?_)
  have lp4 : ∀ (dlp4 : Nat) (k : Nat) (q3 : Nat) (r3 : Nat), t + 1 - k = dlp4 → (1 ≤ k ∧ k ≤ t + 1) → (fst (fpP p n sg v one) (t + 1 - k) k = fst (fpP p n sg v one) t 1) → ∀ (H5 : Heap) (locs : List Loc) (ls : Array Slot), va_P G.1 zCl ([(q3, zOb 6 [.ref g, .ref r3, .ref x]), (r3, zI G n (pwV p n sg v (k - 1)))]) H5 → va_D (zA M0 H0) ([(q3, zOb 6 [.ref g, .ref r3, .ref x]), (r3, zI G n (pwV p n sg v (k - 1)))]) → va_S (zA M0 H0) H0 H5 locs → lv_has ls 5 [(4, .int (iI ((k : Nat) : Int))), (3, .ref q3), (0, .ref a), (1, .int (iI ((t : Nat) : Int))), (2, .int (iI ((one : Nat) : Int)))] → W pp l ee rm_m_X7_firstPower ss mm args below meth cd H5 locs (2 + 2 * (k - 1)) (19 + 19 * (k - 1)) Q (F0 mm 8 ls []) := by
    intro dlp4
    induction dlp4 using Nat.strongRecOn with
    | ind dlp4 ihlp4 =>
      intro k q3 r3 hdlp4 hk hf H5 locs ls  hP hD hS hl
      refine lv_iload hx hb dX7_firstPower_8 (lv_at hl 0 rfl) ?_
      refine lv_iload_n hx hb dX7_firstPower_10 rfl (lv_at hl 3 rfl) ?_
      refine z_cgt (tgt := 60) hx hb dX7_firstPower_11 (by decide) (by omega) (fun c6 => ?_) (fun c6 => ?_)
      · have ef : t + 1 - k = 0 := by omega
        refine lv_iconst (v := iI (-1)) hx hb dX7_firstPower_60 rfl ?_
        exact z_iret hC hrt hlk hQ hS ⟨zle (z := 124) rfl (by omega), zle (z := 1220) rfl (by omega)⟩ ⟨_, rfl, by rw [← hf, ef]; rfl⟩ dX7_firstPower_61
      · refine lv_aload_n hx hb dX7_firstPower_14 rfl (lv_at hl 1 rfl) ?_
        refine lv_aload_n hx hb dX7_firstPower_15 rfl (lv_at hl 2 rfl) ?_
        refine z_go ((2 + 2 * (k - 1)) + 2) ((19 + 19 * (k - 1)) + 19) (z_runV (As := [.ref a]) (rest := []) hC hml hl.1 (m_X7_times hE H5 (hO.ext0 (zS_F hS)) x g p d n kd dv sg q3 r3 (pwV p n sg v (k - 1)) a r (v)  (hA.ext0 (zS_F hS)) ⟨hP 0 _ rfl, hP 1 _ rfl⟩ (pwV_ok hp n sg v (k - 1)) (h.ext0 (zS_F hS)) hv ) (lw_V q359 q360 q361 q92 q362) rfl nd_X7_times rfl (z_rv hC (ci := 6) rfl (hP 0 _ rfl) rfl) rfl (Nat.le_of_ble_eq_true rfl) ⟨Nat.le_of_ble_eq_true rfl, Nat.le_of_ble_eq_true rfl⟩ ⟨zfit (k := 2) (z := 124) rfl rfl (by omega), zfit (k := 19) (z := 1220) rfl rfl (by omega)⟩ dX7_firstPower_16) ⟨zad (k := 2) rfl (by omega), zad (k := 19) rfl (by omega)⟩ hS (fun _ z => z.elim) (fun r H9 locs hp hF hS1 => ?_)
        obtain ⟨qe7, rfl, re8, hN⟩ := hp
        obtain ⟨hP, hD⟩ := zjn hP hD hS.1 hF hN
        have hP : va_P G.1 zCl ([(q3, zOb 6 [.ref g, .ref r3, .ref x]), (r3, zI G n (pwV p n sg v (k - 1))), (qe7, zOb 6 [.ref g, .ref re8, .ref x]), (re8, zI G n (tmV p n sg (pwV p n sg v (k - 1)) v))]) H9 := hP
        have hD : va_D (zA M0 H0) ([(q3, zOb 6 [.ref g, .ref r3, .ref x]), (r3, zI G n (pwV p n sg v (k - 1))), (qe7, zOb 6 [.ref g, .ref re8, .ref x]), (re8, zI G n (tmV p n sg (pwV p n sg v (k - 1)) v))]) := hD
        have hS := hS1
        have ek : k - 1 + 1 = k := by omega
        have hP : va_P G.1 zCl ([(q3, zOb 6 [.ref g, .ref r3, .ref x]), (r3, zI G n (pwV p n sg v (k - 1))), (qe7, zOb 6 [.ref g, .ref re8, .ref x]), (re8, zI G n (pwV p n sg v k))]) H9 := zcI hP 3 rfl (fun j _ => by rw [← ek]; rfl)
        have hD : va_D (zA M0 H0) ([(q3, zOb 6 [.ref g, .ref r3, .ref x]), (r3, zI G n (pwV p n sg v (k - 1))), (qe7, zOb 6 [.ref g, .ref re8, .ref x]), (re8, zI G n (pwV p n sg v k))]) := hD.set (p := 3) rfl
        have hpk := pwV_ok hp n sg v k 0 (by omega)
        refine lv_astore_n (lv' := [(3, .ref qe7), (4, .int (iI ((k : Nat) : Int))), (0, .ref a), (1, .int (iI ((t : Nat) : Int))), (2, .int (iI ((one : Nat) : Int)))]) hx hb dX7_firstPower_19 rfl hl (by decide) rfl (fun ls hl => ?_)
        refine lv_iload_n hx hb dX7_firstPower_20 rfl (lv_at hl 4 rfl) ?_
        refine z_zeq (tgt := 44) hx hb dX7_firstPower_21 (by decide) (by omega) (fun c10 => ?_) (fun c10 => ?_)
        · refine lv_aload_n hx hb dX7_firstPower_44 rfl (lv_at hl 0 rfl) ?_
          refine z_go ((2 + 2 * (k - 1)) + 2) ((19 + 19 * (k - 1)) + 19) (z_runV (As := []) (rest := []) hC hml hl.1 (m_X7_isZero hE H9 (hO.ext0 (zS_F hS)) x g p d n kd dv sg qe7 re8 (pwV p n sg v k)  (hA.ext0 (zS_F hS)) ⟨hP 2 _ rfl, hP 3 _ rfl⟩ (pwV_ok hp n sg v k) ) (lw_V q508 q509 q510 q92 q511) rfl nd_X7_isZero rfl (z_rv hC (ci := 6) rfl (hP 2 _ rfl) rfl) rfl (Nat.le_of_ble_eq_true rfl) ⟨Nat.le_of_ble_eq_true rfl, Nat.le_of_ble_eq_true rfl⟩ ⟨zfit (k := 0) (z := 124) rfl rfl (by omega), zfit (k := 0) (z := 1220) rfl rfl (by omega)⟩ dX7_firstPower_45) ⟨zad (k := 0) rfl (by omega), zad (k := 0) rfl (by omega)⟩ hS (fun _ z => z.elim) (fun r H11 locs hp hF hS1 => ?_)
          obtain ⟨_, rfl, rfl⟩ := hp
          have hP := zpk hP hF
          have hP : va_P G.1 zCl ([(q3, zOb 6 [.ref g, .ref r3, .ref x]), (r3, zI G n (pwV p n sg v (k - 1))), (qe7, zOb 6 [.ref g, .ref re8, .ref x]), (re8, zI G n (pwV p n sg v k))]) H11 := hP
          have hD : va_D (zA M0 H0) ([(q3, zOb 6 [.ref g, .ref r3, .ref x]), (r3, zI G n (pwV p n sg v (k - 1))), (qe7, zOb 6 [.ref g, .ref re8, .ref x]), (re8, zI G n (pwV p n sg v k))]) := hD
          have hS := hS1
          refine z_zeq (tgt := 54) hx hb dX7_firstPower_48 (by decide) (by unfold b2i; split <;> omega) (fun cz => ?_) (fun cz => ?_)
          · refine z_iinc (z := ((k + 1 : Nat) : Int)) (lv' := [(4, .int (iI ((k + 1 : Nat) : Int))), (3, .ref qe7), (0, .ref a), (1, .int (iI ((t : Nat) : Int))), (2, .int (iI ((one : Nat) : Int)))]) hx hb dX7_firstPower_54 hl (k := 1) rfl (by omega) (by decide) rfl (fun ls hl => ?_)
            refine lv_goto (tgt := 8) hx hb dX7_firstPower_57 (by decide) ?_
            exact W.widen (by omega) (by omega) (ihlp4 (t + 1 - (k + 1)) (by omega) (k + 1) qe7 re8 rfl (by omega) (by rw [← hf, fst_miss (k := k) (fp_zf (by omega) (b2i_z cz)) (by omega)]; rw [show t + 1 - (k + 1) = t + 1 - k - 1 by omega]) _ _ _  (hP.sub [2, 3] rfl) (hD.sub [2, 3] (by decide) rfl) hS hl)
          · refine lv_iload hx hb dX7_firstPower_51 (lv_at hl 1 rfl) ?_
            exact z_iret hC hrt hlk hQ hS ⟨zle (z := 124) rfl (by omega), zle (z := 1220) rfl (by omega)⟩ ⟨_, rfl, by rw [← hf]; exact (fst_hit (fp_zt (by omega) (b2i_nz cz)) (by omega)).symm⟩ dX7_firstPower_53
        · refine lv_aload_n hx hb dX7_firstPower_24 rfl (lv_at hl 0 rfl) ?_
          refine z_go ((2 + 2 * (k - 1)) + 2) ((19 + 19 * (k - 1)) + 19) (z_runV (As := []) (rest := []) hC hml hl.1 (m_X7_isPlain hE H9 (hO.ext0 (zS_F hS)) x g p d n kd dv sg qe7 re8 (pwV p n sg v k)  (hA.ext0 (zS_F hS)) ⟨hP 2 _ rfl, hP 3 _ rfl⟩ (pwV_ok hp n sg v k) ) (lw_V q257 q258 q259 q92 q260) rfl nd_X7_isPlain rfl (z_rv hC (ci := 6) rfl (hP 2 _ rfl) rfl) rfl (Nat.le_of_ble_eq_true rfl) ⟨Nat.le_of_ble_eq_true rfl, Nat.le_of_ble_eq_true rfl⟩ ⟨zfit (k := 0) (z := 124) rfl rfl (by omega), zfit (k := 0) (z := 1220) rfl rfl (by omega)⟩ dX7_firstPower_25) ⟨zad (k := 0) rfl (by omega), zad (k := 0) rfl (by omega)⟩ hS (fun _ z => z.elim) (fun r H12 locs hp hF hS1 => ?_)
          obtain ⟨_, rfl, rfl⟩ := hp
          have hP := zpk hP hF
          have hP : va_P G.1 zCl ([(q3, zOb 6 [.ref g, .ref r3, .ref x]), (r3, zI G n (pwV p n sg v (k - 1))), (qe7, zOb 6 [.ref g, .ref re8, .ref x]), (re8, zI G n (pwV p n sg v k))]) H12 := hP
          have hD : va_D (zA M0 H0) ([(q3, zOb 6 [.ref g, .ref r3, .ref x]), (r3, zI G n (pwV p n sg v (k - 1))), (qe7, zOb 6 [.ref g, .ref re8, .ref x]), (re8, zI G n (pwV p n sg v k))]) := hD
          have hS := hS1
          refine z_zeq (tgt := 54) hx hb dX7_firstPower_28 (by decide) (by unfold b2i; split <;> omega) (fun cz => ?_) (fun cz => ?_)
          · refine z_iinc (z := ((k + 1 : Nat) : Int)) (lv' := [(4, .int (iI ((k + 1 : Nat) : Int))), (3, .ref qe7), (0, .ref a), (1, .int (iI ((t : Nat) : Int))), (2, .int (iI ((one : Nat) : Int)))]) hx hb dX7_firstPower_54 hl (k := 1) rfl (by omega) (by decide) rfl (fun ls hl => ?_)
            refine lv_goto (tgt := 8) hx hb dX7_firstPower_57 (by decide) ?_
            exact W.widen (by omega) (by omega) (ihlp4 (t + 1 - (k + 1)) (by omega) (k + 1) qe7 re8 rfl (by omega) (by rw [← hf, fst_miss (k := k) (fp_of (by omega) (Or.inl (b2i_z cz))) (by omega)]; rw [show t + 1 - (k + 1) = t + 1 - k - 1 by omega]) _ _ _  (hP.sub [2, 3] rfl) (hD.sub [2, 3] (by decide) rfl) hS hl)
          · refine lv_aload_n hx hb dX7_firstPower_31 rfl (lv_at hl 0 rfl) ?_
            refine z_get hC (k := 1) rfl in_X7 (hP 2 _ rfl) (by decide) q324 (fun _ h => h) rfl dX7_firstPower_32 ?_
            refine lv_iconst (v := iI 0) hx hb dX7_firstPower_35 rfl ?_
            refine z_iald hC (hP 3 _ rfl) (k := 0) rfl (by omega) (y := (pwV p n sg v k) 0) rfl dX7_firstPower_36 ?_
            refine lv_iconst (v := iI 1) hx hb dX7_firstPower_37 rfl ?_
            refine z_cne (tgt := 54) hx hb dX7_firstPower_38 (by decide) (by omega) (fun c13 => ?_) (fun c13 => ?_)
            · refine z_iinc (z := ((k + 1 : Nat) : Int)) (lv' := [(4, .int (iI ((k + 1 : Nat) : Int))), (3, .ref qe7), (0, .ref a), (1, .int (iI ((t : Nat) : Int))), (2, .int (iI ((one : Nat) : Int)))]) hx hb dX7_firstPower_54 hl (k := 1) rfl (by omega) (by decide) rfl (fun ls hl => ?_)
              refine lv_goto (tgt := 8) hx hb dX7_firstPower_57 (by decide) ?_
              exact W.widen (by omega) (by omega) (ihlp4 (t + 1 - (k + 1)) (by omega) (k + 1) qe7 re8 rfl (by omega) (by rw [← hf, fst_miss (k := k) (fp_of (by omega) (Or.inr (by omega))) (by omega)]; rw [show t + 1 - (k + 1) = t + 1 - k - 1 by omega]) _ _ _  (hP.sub [2, 3] rfl) (hD.sub [2, 3] (by decide) rfl) hS hl)
            · refine lv_goto (tgt := 51) hx hb dX7_firstPower_41 (by decide) ?_
              refine lv_iload hx hb dX7_firstPower_51 (lv_at hl 1 rfl) ?_
              exact z_iret hC hrt hlk hQ hS ⟨zle (z := 124) rfl (by omega), zle (z := 1220) rfl (by omega)⟩ ⟨_, rfl, by rw [← hf]; exact (fst_hit (fp_ot (by omega) (b2i_nz cz) (by omega)) (by omega)).symm⟩ dX7_firstPower_53
  exact W.widen (by omega) (by omega) (lp4 _ 1 qe1 re2 rfl (⟨by omega, by omega⟩) rfl _ _ _  hP hD hS hl)

abbrev rm_m_X5_isBlades : Room := { frames := 0, cells := 0, slots := 0, locals := 0 }
set_option maxHeartbeats 4000000 in
theorem m_X5_isBlades {l : Launch} {s0 : State} {G : zG} (hE : zE l s0 G) (H0 : Heap) (hO : zO s0 H0) (x g : Nat) (p : Int) (d n kd : Nat) (dv : Nat → Int) (sg : Nat → Nat → Int) (hA : zAg G x g p d n kd dv sg H0) : zM l s0 yX5_isBlades cX5_isBlades 1 (some FieldType.boolean) rm_m_X5_isBlades [.ref g] H0 M0 (ri (fun y _ => y = if kd = 1 then 1 else 0)) := by
  refine z_met hE (by decide +kernel) (Nat.le_of_ble_eq_true rfl) ?_
  intro pp ee ss mm args below meth cd Q ls hC hml hrt hlk hnm hH hQ hS hl
  have hx := hC.x
  have hb := hC.b
  have hl : lv_has ls 1 [(0, .ref g)] := hl
  have hP : va_P G.1 zCl [] H0 := va_nil
  have hD : va_D (zA M0 H0) [] := va_nilD
  obtain ⟨la, le, dr, kn, sm, dl, da, ml, so, dm, ro, hx0, hg0, hL0, hso, hro, hfa⟩ := id hA
  obtain ⟨hp, hd4, hn2, hkd, hdv, hsg⟩ := hfa
  obtain ⟨hn16, hp7⟩ := hA.n
  refine lv_aload_n hx hb dX5_isBlades_0 rfl (lv_at hl 0 rfl) ?_
  refine z_get hC (k := 0) rfl in_X5 (zo hS hg0 id) (by decide) q955 (fun _ h => h) rfl dX5_isBlades_1 ?_
  refine z_gets hC (hO.ext0 (zS_F hS)) (hE.2.2.2.1.1.2.1) q438 dX5_isBlades_4 ?_
  have hkk : G.2 10 ≠ G.2 11 := hE.2.2.2.1.1.2.2.2.2.2.2
  refine z_ane (tgt := 14) hx hb dX5_isBlades_7 (by decide)   (fun c1 => ?_) (fun c1 => ?_)
  · refine lv_iconst (v := iI 0) hx hb dX5_isBlades_14 rfl ?_
    exact z_zret hC hrt hlk hQ hS ⟨zle (z := 0) rfl (by omega), zle (z := 0) rfl (by omega)⟩ (by omega) ⟨_, rfl, by rw [if_neg (fun e => c1 (by rw [e]))]⟩ dX5_isBlades_15
  · refine lv_iconst (v := iI 1) hx hb dX5_isBlades_10 rfl ?_
    refine lv_goto (tgt := 15) hx hb dX5_isBlades_11 (by decide) ?_
    exact z_zret hC hrt hlk hQ hS ⟨zle (z := 0) rfl (by omega), zle (z := 0) rfl (by omega)⟩ (by omega) ⟨_, rfl, by rw [if_pos (by rcases (show kd = 0 ∨ kd = 1 by omega) with e | e; rw [e] at c1; exact absurd c1 hkk; exact e)]⟩ dX5_isBlades_15

abbrev rm_m_X7_square : Room := { frames := 4, cells := 2, slots := 19, locals := 86 }
set_option maxHeartbeats 4000000 in
theorem m_X7_square {l : Launch} {s0 : State} {G : zG} (hE : zE l s0 G) (H0 : Heap) (hO : zO s0 H0) (x g : Nat) (p : Int) (d n kd : Nat) (dv : Nat → Int) (sg : Nat → Nat → Int) (a r : Nat) (v : Nat → Int) (hA : zAg G x g p d n kd dv sg H0) (h : zEl G x g a r n v H0) (hv : rw_ok p n v) : zM l s0 yX7_square cX7_square 2 (some FieldType.int) rm_m_X7_square [.ref a] H0 M0 (ri (fun y _ => y = sqV p n kd sg v)) := by
  refine z_met hE (by decide +kernel) (Nat.le_of_ble_eq_true rfl) ?_
  intro pp ee ss mm args below meth cd Q ls hC hml hrt hlk hnm hH hQ hS hl
  have hx := hC.x
  have hb := hC.b
  have hl : lv_has ls 2 [(0, .ref a)] := hl
  have hP : va_P G.1 zCl [] H0 := va_nil
  have hD : va_D (zA M0 H0) [] := va_nilD
  obtain ⟨la, le, dr, kn, sm, dl, da, ml, so, dm, ro, hx0, hg0, hL0, hso, hro, hfa⟩ := id hA
  obtain ⟨hp, hd4, hn2, hkd, hdv, hsg⟩ := hfa
  obtain ⟨hn16, hp7⟩ := hA.n
  refine lv_aload_n hx hb dX7_square_0 rfl (lv_at hl 0 rfl) ?_
  refine z_get hC (k := 0) rfl in_X7 (zo hS h.1 id) (by decide) q322 (fun _ h => h) rfl dX7_square_1 ?_
  refine z_go 0 0 (z_runV (As := []) (rest := []) hC hml hl.1 (m_X5_isBlades hE H0 (hO.ext0 (zS_F hS)) x g p d n kd dv sg (hA.ext0 (zS_F hS))) (lw_V q525 q435 q436 q74 q437) rfl nd_X5_isBlades rfl (z_rv hC (ci := 4) rfl (zo hS hg0 id) rfl) rfl (Nat.le_of_ble_eq_true rfl) ⟨Nat.le_of_ble_eq_true rfl, Nat.le_of_ble_eq_true rfl⟩ ⟨zfit (k := 0) (z := 2) rfl rfl (by omega), zfit (k := 0) (z := 19) rfl rfl (by omega)⟩ dX7_square_4) ⟨zad (k := 0) rfl (by omega), zad (k := 0) rfl (by omega)⟩ hS (fun _ z => z.elim) (fun r H1 locs hp hF hS1 => ?_)
  obtain ⟨_, rfl, rfl⟩ := hp
  have hP := zpk hP hF
  have hP : va_P G.1 zCl ([]) H1 := hP
  have hD : va_D (zA M0 H0) ([]) := hD
  have hS := hS1
  refine z_zeq (tgt := 17) hx hb dX7_square_7 (by decide) (by split <;> omega) (fun cb => ?_) (fun cb => ?_)
  · refine lv_iconst (v := iI (-1)) hx hb dX7_square_17 rfl ?_
    exact z_iret hC hrt hlk hQ hS ⟨zle (z := 2) rfl (by omega), zle (z := 19) rfl (by omega)⟩ ⟨_, rfl, by unfold sqV; rw [if_pos (Or.inl (by split at cb <;> omega))]⟩ dX7_square_18
  · have ekd : kd = 1 := by split at cb; assumption; omega
    refine lv_aload_n hx hb dX7_square_10 rfl (lv_at hl 0 rfl) ?_
    refine z_go 0 0 (z_runV (As := []) (rest := []) hC hml hl.1 (m_X7_isZero hE H1 (hO.ext0 (zS_F hS)) x g p d n kd dv sg a r (v)  (hA.ext0 (zS_F hS)) (h.ext0 (zS_F hS)) hv ) (lw_V q508 q509 q510 q92 q511) rfl nd_X7_isZero rfl (z_rv hC (ci := 6) rfl (zo hS h.1 id) rfl) rfl (Nat.le_of_ble_eq_true rfl) ⟨Nat.le_of_ble_eq_true rfl, Nat.le_of_ble_eq_true rfl⟩ ⟨zfit (k := 0) (z := 2) rfl rfl (by omega), zfit (k := 0) (z := 19) rfl rfl (by omega)⟩ dX7_square_11) ⟨zad (k := 0) rfl (by omega), zad (k := 0) rfl (by omega)⟩ hS (fun _ z => z.elim) (fun r H2 locs hp hF hS1 => ?_)
    obtain ⟨_, rfl, rfl⟩ := hp
    have hP := zpk hP hF
    have hP : va_P G.1 zCl ([]) H2 := hP
    have hD : va_D (zA M0 H0) ([]) := hD
    have hS := hS1
    refine z_zeq (tgt := 19) hx hb dX7_square_14 (by decide) (by unfold b2i; split <;> omega) (fun cz => ?_) (fun cz => ?_)
    · have ez : zeV n v = false := b2i_z cz
      refine lv_iconst (v := iI 0) hx hb dX7_square_19 rfl ?_
      refine lv_istore_n (lv' := [(1, .int (iI 0)), (0, .ref a)]) hx hb dX7_square_20 rfl hl (by decide) rfl (fun ls hl => ?_)
      have lp3 : ∀ (dlp3 : Nat) (k : Nat), n - k = dlp3 → (k ≤ n) → (vcV v k = true) → ∀ (H4 : Heap) (locs : List Loc) (ls : Array Slot), va_P G.1 zCl ([]) H4 → va_D (zA M0 H0) ([]) → va_S (zA M0 H0) H0 H4 locs → lv_has ls 2 [(1, .int (iI ((k : Nat) : Int))), (0, .ref a)] → W pp l ee rm_m_X7_square ss mm args below meth cd H4 locs 0 0 Q (F0 mm 21 ls []) := by
        intro dlp3
        induction dlp3 using Nat.strongRecOn with
        | ind dlp3 ihlp3 =>
          intro k hdlp3 hk hvc H4 locs ls  hP hD hS hl
          refine lv_iload_n hx hb dX7_square_21 rfl (lv_at hl 0 rfl) ?_
          refine lv_aload_n hx hb dX7_square_22 rfl (lv_at hl 1 rfl) ?_
          refine z_get hC (k := 1) rfl in_X7 (zo hS h.1 id) (by decide) q324 (fun _ h => h) rfl dX7_square_23 ?_
          refine z_alen hC 0 (zo hS h.2 id) rfl (y := ((n : Nat) : Int)) rfl dX7_square_26 ?_
          refine z_cge (tgt := 55) hx hb dX7_square_27 (by decide) (by omega) (fun c5 => ?_) (fun c5 => ?_)
          · have ek : k = n := by omega
            refine lv_aload_n hx hb dX7_square_55 rfl (lv_at hl 1 rfl) ?_
            refine lv_aload_n hx hb dX7_square_56 rfl (lv_at hl 1 rfl) ?_
            refine z_go 2 19 (z_runV (As := [.ref a]) (rest := []) hC hml hl.1 (m_X7_times hE H4 (hO.ext0 (zS_F hS)) x g p d n kd dv sg a r (v) a r (v)  (hA.ext0 (zS_F hS)) (h.ext0 (zS_F hS)) hv (h.ext0 (zS_F hS)) hv ) (lw_V q359 q360 q361 q92 q362) rfl nd_X7_times rfl (z_rv hC (ci := 6) rfl (zo hS h.1 id) rfl) rfl (Nat.le_of_ble_eq_true rfl) ⟨Nat.le_of_ble_eq_true rfl, Nat.le_of_ble_eq_true rfl⟩ ⟨zfit (k := 2) (z := 2) rfl rfl (by omega), zfit (k := 19) (z := 19) rfl rfl (by omega)⟩ dX7_square_57) ⟨zad (k := 2) rfl (by omega), zad (k := 19) rfl (by omega)⟩ hS (fun _ z => z.elim) (fun r H8 locs hp hF hS1 => ?_)
            obtain ⟨qe6, rfl, re7, hN⟩ := hp
            obtain ⟨hP, hD⟩ := zjn hP hD hS.1 hF hN
            have hP : va_P G.1 zCl ([(qe6, zOb 6 [.ref g, .ref re7, .ref x]), (re7, zI G n (tmV p n sg v v))]) H8 := hP
            have hD : va_D (zA M0 H0) ([(qe6, zOb 6 [.ref g, .ref re7, .ref x]), (re7, zI G n (tmV p n sg v v))]) := hD
            have hS := hS1
            refine z_get hC (k := 1) rfl in_X7 (hP 0 _ rfl) (by decide) q324 (fun _ h => h) rfl dX7_square_60 ?_
            refine lv_iconst (v := iI 0) hx hb dX7_square_63 rfl ?_
            refine z_iald hC (hP 1 _ rfl) (k := 0) rfl (by omega) (y := (tmV p n sg v v) 0) rfl dX7_square_64 ?_
            exact z_iret hC hrt hlk hQ hS ⟨zle (z := 2) rfl (by omega), zle (z := 19) rfl (by omega)⟩ ⟨_, rfl, by unfold sqV; rw [if_neg (by rw [ek] at hvc; rw [ez, hvc]; simp [ekd])]⟩ dX7_square_65
          · have hvk := hv k (by omega)
            refine lv_aload_n hx hb dX7_square_30 rfl (lv_at hl 1 rfl) ?_
            refine z_get hC (k := 1) rfl in_X7 (zo hS h.1 id) (by decide) q324 (fun _ h => h) rfl dX7_square_31 ?_
            refine lv_iload_n hx hb dX7_square_34 rfl (lv_at hl 0 rfl) ?_
            refine z_iald hC (zo hS h.2 id) (k := k) rfl (by omega) (y := v k) rfl dX7_square_35 ?_
            refine z_zeq (tgt := 49) hx hb dX7_square_36 (by decide) (by omega) (fun c9 => ?_) (fun c9 => ?_)
            · refine z_iinc (z := ((k + 1 : Nat) : Int)) (lv' := [(1, .int (iI ((k + 1 : Nat) : Int))), (0, .ref a)]) hx hb dX7_square_49 hl (k := 0) rfl (by omega) (by decide) rfl (fun ls hl => ?_)
              refine lv_goto (tgt := 21) hx hb dX7_square_52 (by decide) ?_
              exact W.widen (by omega) (by omega) (ihlp3 (n - (k + 1)) (by omega) (k + 1) rfl (by omega) (vcV_s hvc (Or.inl (by omega))) _ _ _  hP hD hS hl)
            · refine lv_iload_n hx hb dX7_square_39 rfl (lv_at hl 0 rfl) ?_
              refine z_go 0 0 (z_runS (As := [.int (iI ((k : Nat) : Int))]) (rest := []) hC hml hl.1 (m_J19_bitCount hE H4 (hO.ext0 (zS_F hS)) k (by omega)) (lw_S q526 q344 q90 q345) nd_J19_bitCount rfl rfl (Nat.le_of_ble_eq_true rfl) ⟨Nat.le_of_ble_eq_true rfl, Nat.le_of_ble_eq_true rfl⟩ ⟨zfit (k := 0) (z := 2) rfl rfl (by omega), zfit (k := 0) (z := 19) rfl rfl (by omega)⟩ dX7_square_40) ⟨zad (k := 0) rfl (by omega), zad (k := 0) rfl (by omega)⟩ hS (fun _ z => z.elim) (fun r H10 locs hp hF hS1 => ?_)
              obtain ⟨_, rfl, rfl⟩ := hp
              have hP := zpk hP hF
              have hP : va_P G.1 zCl ([]) H10 := hP
              have hD : va_D (zA M0 H0) ([]) := hD
              have hS := hS1
              have hbk : bitc k ≤ 4 := by unfold bitc; omega
              refine lv_iconst (v := iI 1) hx hb dX7_square_43 rfl ?_
              refine z_ceq (tgt := 49) hx hb dX7_square_44 (by decide) (by omega) (fun c11 => ?_) (fun c11 => ?_)
              · refine z_iinc (z := ((k + 1 : Nat) : Int)) (lv' := [(1, .int (iI ((k + 1 : Nat) : Int))), (0, .ref a)]) hx hb dX7_square_49 hl (k := 0) rfl (by omega) (by decide) rfl (fun ls hl => ?_)
                refine lv_goto (tgt := 21) hx hb dX7_square_52 (by decide) ?_
                exact W.widen (by omega) (by omega) (ihlp3 (n - (k + 1)) (by omega) (k + 1) rfl (by omega) (vcV_s hvc (Or.inr (by omega))) _ _ _  hP hD hS hl)
              · refine lv_iconst (v := iI (-1)) hx hb dX7_square_47 rfl ?_
                exact z_iret hC hrt hlk hQ hS ⟨zle (z := 2) rfl (by omega), zle (z := 19) rfl (by omega)⟩ ⟨_, rfl, by unfold sqV; rw [if_pos (Or.inr (Or.inr (vcV_f (by omega) (by omega) n (by omega))))]⟩ dX7_square_48
      exact W.widen (by omega) (by omega) (lp3 _ 0 rfl (Nat.zero_le _) rfl _ _ _  hP hD hS hl)
    · refine lv_iconst (v := iI (-1)) hx hb dX7_square_17 rfl ?_
      exact z_iret hC hrt hlk hQ hS ⟨zle (z := 2) rfl (by omega), zle (z := 19) rfl (by omega)⟩ ⟨_, rfl, by unfold sqV; rw [if_pos (Or.inr (Or.inl (b2i_nz cz)))]⟩ dX7_square_18

