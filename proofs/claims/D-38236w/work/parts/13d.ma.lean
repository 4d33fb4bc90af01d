/-! ROWS: arrays of int arrays. A group of rows stands in a picture as a tail -/
set_option maxRecDepth 100000
def zRows (G : zG) (n k : Nat) (ro : Nat → Nat) (F : Nat → Nat → Int) : va_W := (List.range k).map (fun i => (ro i, zI G n (F i)))
theorem zRows_get {G : zG} {n k : Nat} {ro : Nat → Nat} {F : Nat → Nat → Int} {i : Nat} (h : i < k) : (zRows G n k ro F)[i]? = some (ro i, zI G n (F i)) := by
  simp [zRows, h]
theorem zRows_len {G : zG} {n k : Nat} {ro : Nat → Nat} {F : Nat → Nat → Int} : (zRows G n k ro F).length = k := by simp [zRows]
theorem zRows_inv {G : zG} {n k : Nat} {ro : Nat → Nat} {F : Nat → Nat → Int} {i : Nat} {x : Nat × va_E} (h : (zRows G n k ro F)[i]? = some x) : i < k ∧ x = (ro i, zI G n (F i)) := by
  have hi : i < k := by have := (List.getElem?_eq_some_iff.mp h).1; rwa [zRows_len] at this
  rw [zRows_get hi] at h
  exact ⟨hi, (Option.some.inj h).symm⟩
theorem zR_at {G : zG} {n k : Nat} {ro : Nat → Nat} {F : Nat → Nat → Int} {pre T : va_W} {L i : Nat} (hL : pre.length = L) (h : i < k) : (pre ++ (zRows G n k ro F ++ T))[L + i]? = some (ro i, zI G n (F i)) := by
  subst hL
  rw [List.getElem?_append_right (by omega), Nat.add_sub_cancel_left, List.getElem?_append_left (by rw [zRows_len]; exact h), zRows_get h]
theorem zRows_set {G : zG} {n k : Nat} {ro : Nat → Nat} {F : Nat → Nat → Int} {i : Nat} {f : Nat → Int} (h : i < k) : (zRows G n k ro F).set i (ro i, zI G n f) = zRows G n k ro (fun j => if j = i then f else F j) := by
  apply List.ext_getElem?
  intro j
  by_cases hj : j < k
  · rw [zRows_get hj, List.getElem?_set]
    by_cases e : i = j
    · subst e; simp [zRows_len, h]
    · rw [if_neg e, zRows_get hj, if_neg (Ne.symm e)]
  · rw [List.getElem?_eq_none (by rw [List.length_set, zRows_len]; omega), List.getElem?_eq_none (by rw [zRows_len]; omega)]
theorem zR_set {G : zG} {n k : Nat} {ro : Nat → Nat} {F : Nat → Nat → Int} {pre T : va_W} {L i : Nat} {f : Nat → Int} (hL : pre.length = L) (h : i < k) : (pre ++ (zRows G n k ro F ++ T)).set (L + i) (ro i, zI G n f) = pre ++ (zRows G n k ro (fun j => if j = i then f else F j) ++ T) := by
  subst hL
  rw [List.set_append_right _ _ (by omega), Nat.add_sub_cancel_left, List.set_append_left _ _ (by rw [zRows_len]; exact h), zRows_set h]
/-- the same rows under other names -/
theorem zRows_congr {G : zG} {n k : Nat} {ro ro' : Nat → Nat} {F F' : Nat → Nat → Int} (h1 : ∀ i, i < k → ro i = ro' i) (h2 : ∀ i, i < k → F i = F' i) : zRows G n k ro F = zRows G n k ro' F' := by
  unfold zRows
  apply List.map_congr_left
  intro i hi
  have := List.mem_range.mp hi
  rw [h1 i this, h2 i this]
theorem zRows_snoc (G : zG) (n k : Nat) (ro : Nat → Nat) (F : Nat → Nat → Int) (q : Nat) (f : Nat → Int) : zRows G n k ro F ++ [(q, zI G n f)] = zRows G n (k + 1) (fun j => if j = k then q else ro j) (fun j => if j = k then f else F j) := by
  unfold zRows
  rw [List.range_succ, List.map_append]
  congr 1
  · apply List.map_congr_left
    intro i hi
    have := List.mem_range.mp hi
    simp [Nat.ne_of_lt this]
  · simp
theorem mem_P {D : va_G} {cl : List vw_C} {ws ws' : va_W} {H : Heap} (h : va_P D cl ws H) (hs : ∀ x ∈ ws', x ∈ ws) : va_P D cl ws' H := by
  intro k q hk
  obtain ⟨j, hj⟩ := List.mem_iff_getElem?.mp (hs q (List.mem_of_getElem? hk))
  exact h j q hj
/-- two pieces change places -/
theorem zswapP {D : va_G} {cl : List vw_C} {a T b : va_W} {H : Heap} (h : va_P D cl ((a ++ T) ++ b) H) : va_P D cl ((a ++ b) ++ T) H := mem_P h (fun x hx => by simp only [List.mem_append] at hx ⊢; rcases hx with (h | h) | h <;> simp [h])
theorem va_D.pw {A : Nat → Prop} {ws : va_W} (h : va_D A ws) : ws.Pairwise (fun x y => x.1 ≠ y.1) := by
  rw [List.pairwise_iff_getElem]
  intro i j hi hj hij e
  have := h.1 i j _ _ (List.getElem?_eq_getElem hi) (List.getElem?_eq_getElem hj) e
  omega
theorem va_D.of_pw {A : Nat → Prop} {ws : va_W} (h : ws.Pairwise (fun x y => x.1 ≠ y.1)) (hA : ∀ x ∈ ws, A x.1) : va_D A ws := by
  refine ⟨fun i j x y hi hj e => ?_, fun k q hk => hA q (List.mem_of_getElem? hk)⟩
  rw [List.pairwise_iff_getElem] at h
  obtain ⟨a1, b1⟩ := List.getElem?_eq_some_iff.mp hi
  obtain ⟨a2, b2⟩ := List.getElem?_eq_some_iff.mp hj
  rcases Nat.lt_trichotomy i j with c | c | c
  · exact absurd (by rw [b1, b2]; exact e) (h i j a1 a2 c)
  · exact c
  · exact absurd (by rw [b1, b2]; exact e.symm) (h j i a2 a1 c)
theorem zswapD {A : Nat → Prop} {a T b : va_W} (h : va_D A ((a ++ T) ++ b)) : va_D A ((a ++ b) ++ T) := by
  have h1 := h.pw
  refine va_D.of_pw ?_ (fun x hx => ?_)
  · rw [List.append_assoc] at h1 ⊢
    rw [List.pairwise_append] at h1 ⊢
    refine ⟨h1.1, ?_, fun x hx y hy => h1.2.2 x hx y (by simp only [List.mem_append] at hy ⊢; exact hy.symm)⟩
    have h2 := h1.2.1
    rw [List.pairwise_append] at h2 ⊢
    exact ⟨h2.2.1, h2.1, fun x hx y hy => Ne.symm (h2.2.2 y hy x hx)⟩
  · obtain ⟨j, hj⟩ := List.mem_iff_getElem?.mp (show x ∈ (a ++ T) ++ b by simp only [List.mem_append] at hx ⊢; rcases hx with (h | h) | h <;> simp [h])
    exact h.2 j x hj
/-- a tail falls away -/
theorem zdropP {D : va_G} {cl : List vw_C} {a T : va_W} {H : Heap} (h : va_P D cl (a ++ T) H) : va_P D cl a H := mem_P h (fun x hx => List.mem_append_left _ hx)
theorem zdropD {A : Nat → Prop} {a T : va_W} (h : va_D A (a ++ T)) : va_D A a := by
  refine va_D.of_pw ((List.pairwise_append.mp h.pw).1) (fun x hx => ?_)
  obtain ⟨j, hj⟩ := List.mem_iff_getElem?.mp (List.mem_append_left T hx)
  exact h.2 j x hj
theorem zhdP {D : va_G} {cl : List vw_C} {a T : va_W} {H : Heap} (h : va_P D cl (a ++ T) H) : va_P D cl T H := mem_P h (fun x hx => List.mem_append_right _ hx)
theorem zhdD {A : Nat → Prop} {a T : va_W} (h : va_D A (a ++ T)) : va_D A T := by
  refine va_D.of_pw ((List.pairwise_append.mp h.pw).2.1) (fun x hx => ?_)
  obtain ⟨j, hj⟩ := List.mem_iff_getElem?.mp (List.mem_append_right a hx)
  exact h.2 j x hj
theorem zRows_P {G : zG} {n k : Nat} {ro : Nat → Nat} {F : Nat → Nat → Int} {H : Heap} (h : ∀ i, i < k → zAt G (ro i) (zI G n (F i)) H) : va_P G.1 zCl (zRows G n k ro F) H := by
  intro i q hi
  obtain ⟨a, rfl⟩ := zRows_inv hi
  exact h i a
theorem zRows_D {G : zG} {A : Nat → Prop} {n k : Nat} {ro : Nat → Nat} {F : Nat → Nat → Int} (h : ∀ i, i < k → A (ro i)) (hd : ∀ i j, i < k → j < k → ro i = ro j → i = j) : va_D A (zRows G n k ro F) := by
  refine ⟨fun i j x y hi hj e => ?_, fun i q hi => ?_⟩
  · obtain ⟨a, rfl⟩ := zRows_inv hi
    obtain ⟨b, rfl⟩ := zRows_inv hj
    exact hd i j a b e
  · obtain ⟨a, rfl⟩ := zRows_inv hi
    exact h i a
theorem outer_arr (cA : ClassId) (n h0 : Nat) : ∀ i, Jvm.Free.Multi.outerC cA n h0 i = arrV cA n (fun j => if j < i then .ref (h0 + 1 + j) else .null)
  | 0 => by
    show ({ cls := cA, slots := Array.replicate n .null, vm := .none } : Cell) = _
    rw [arrV_new]
    exact arrV_congr (fun j _ => by rw [if_neg (Nat.not_lt_zero j)])
  | i + 1 => by
    show (Jvm.Free.Multi.outerC cA n h0 i).setSlot i (.ref (h0 + 1 + i)) = _
    rw [outer_arr cA n h0 i, arrV_store]
    refine arrV_congr (fun j _ => ?_)
    unfold updV
    by_cases e : j = i
    · subst e; simp
    · by_cases h : j < i
      · simp [e, h, Nat.lt_succ_of_lt h]
      · have : ¬ j < i + 1 := by omega
        simp [e, h, this]
theorem z_AOm {u U : State} {a0 args : Array Value} (hvm : u.vm.Alike U.vm) (h : (Cond.arrayOver (.array .int)).before a0 u = true) : (Cond.arrayOver (.array .int)).before args U = true := by
  obtain ⟨comp, c, k, h1, h2, h3, h4, h5⟩ := arrayOverA_spec h
  obtain ⟨k', hk', he⟩ := hvm.2.2 _ _ h3
  have hi : (U.vm.classes.findIdx? fun (x : Class) => match x.kind with | .array component _ => component == comp | _ => false) = some c := by
    rw [hvm.findIdx?_eq _ (fun _ => rfl)]
    exact h2
  have hkind : k'.kind = .array comp (.array .int) := by rw [he]; exact h4
  have f1 : U.vm.findClass (FieldType.array .int).toString = some comp := by rw [hvm.findClass]; exact h1
  have f2 : U.vm.findClass ("[" ++ (FieldType.array .int).toString) = some c := by rw [hvm.findClass]; exact h5
  unfold Cond.before Cond.holds
  simp only [Cond.value]
  rw [f1, Option.bind_some]
  refine (congrArg (fun o : Option Nat => (o.bind (fun c => (U.vm.classes[c]?).map fun (k : Class) => match k.kind with | .array _ ty => decide (ty = FieldType.array .int) && decide (U.vm.findClass ("[" ++ (FieldType.array .int).toString) = some c) | _ => false) == some true)) hi).trans ?_
  simp [hk', hkind, f2]
section MA
variable {p : Program} {l : Launch} {e : Env} {R : Room} {s : State} {m : MethodId} {args : Array Value} {below : List Frame} {meth : Method} {c : Code} {H : Heap} {locs : List Loc} {cells slots : Nat} {Q : State → Prop}
variable {cc : ByteArray} {pc : Nat} {ls : Array Slot} {rest : List Value} {s0 : State} {G : zG} {own : String} {A : Nat → Prop} {H0 : Heap} {ws : va_W} {M : Nat → Prop}
theorem z_aoI (h : zC p l s0 G s m args c own cc) : (Cond.arrayOver (.array .int)).before args s = true := by
  obtain ⟨a0, ht⟩ := h.e.1
  exact z_AOm h.w.alike (ht _ q536)
theorem z_kII (h : zC p l s0 G s m args c own cc) : ∃ kA : Class, s.vm.classes[G.2 4]? = some kA ∧ kA.kind = .array (G.2 0) (.array .int) ∧ s.vm.findClass "[I" = some (G.2 0) := by
  obtain ⟨comp, cA, kA, h1, h2, h3, h4⟩ := Cond.arrayOver_specA (z_aoI h)
  have e1 : s.vm.findClass "[[I" = some (G.2 4) := (h.k.2 4 _ rfl).2
  have e2 : s.vm.findClass "[I" = some (G.2 0) := (h.k.2 0 _ rfl).2
  cases Option.some.inj (e1.symm.trans h4)
  cases Option.some.inj (e2.symm.trans h1)
  exact ⟨kA, h2, h3, e2⟩
/-- new int[n][n] -/
theorem z_multi (h : zC p l s0 G s m args c own cc) (hP : va_P G.1 zCl ws H) (hD : va_D (zA M H0) ws) (hS : va_S (zA M H0) H0 H locs) {n index : Nat} {x y : Int} {c1 s1 : Nat} (hcl : Cond.classLink own index "[[I" ∈ lw_all) (hx : x = (n : Int)) (hy : y = (n : Int)) (hn : n ≤ 16) (hc : cells + 17 ≤ R.cells ∧ slots + 272 ≤ R.slots) (h1 : cells + 17 ≤ c1 ∧ slots + 272 ≤ s1) (d : decode cc pc = .ok (.multianewarray index 2, 4))
    (kk : ∀ (q : Nat) (H1 : Heap), H0.size ≤ q → H.size ≤ q → va_P G.1 zCl ((ws ++ [(q, zII G n (fun i => some (q + 1 + i)))]) ++ (zRows G n n (fun i => q + 1 + i) (fun _ _ => 0) ++ [])) H1 → va_D (zA M H0) ((ws ++ [(q, zII G n (fun i => some (q + 1 + i)))]) ++ (zRows G n n (fun i => q + 1 + i) (fun _ _ => 0) ++ [])) → va_S (zA M H0) H0 H1 locs → zF M0 H H1 → W p l e R s m args below meth c H1 locs c1 s1 Q (F0 m (pc + 4) ls (.ref q :: rest))) : W p l e R s m args below meth c H locs cells slots Q (F0 m pc ls (.int (iI y) :: .int (iI x) :: rest)) := by
  subst hx
  subst hy
  have cl : (iI ((n : Nat) : Int)).toNatClampNeg = n := iI_cl (by omega)
  have nl : ¬ iI ((n : Nat) : Int) < 0 := by rw [iI_l0 ⟨by omega, by omega⟩]; omega
  have hnn : n * n ≤ 256 := by have := Nat.mul_le_mul hn hn; omega
  intro T hT X
  obtain ⟨vm₁, cA, comp, hW1, hfA, hfC, -, -, X1, step⟩ := X.multianewarray2F h.x (own := own) (index := index) (ty := .int) h.o (h.t _ hcl) (z_aoI h) (h.t _ q333) (g := F0 m pc ls (.int (iI ((n : Nat) : Int)) :: .int (iI ((n : Nat) : Int)) :: rest)) rfl (by rw [h.b]; exact d) (n := iI ((n : Nat) : Int)) (k := iI ((n : Nat) : Int)) (rest := rest) rfl nl nl (by rw [cl]; omega) (by rw [cl]; show n * 4 ≤ _; omega) (by rw [cl]; omega) rfl rfl (by rw [cl]; omega) (by rw [cl]; omega)
  rw [cl] at X1 step
  obtain ⟨kA, -, -, hfI⟩ := z_kII h
  have hfII : s.vm.findClass "[[I" = some (G.2 4) := (h.k.2 4 _ rfl).2
  cases Option.some.inj (hfII.symm.trans hfA)
  cases Option.some.inj (hfI.symm.trans hfC)
  obtain ⟨f1, f2, -, -⟩ := Jvm.Free.Multi.fill_facts (T.setVm vm₁) (G.2 4) (G.2 0) n n (defaultValue .int) n
  have f3 : ∀ a : Nat, a < T.heap.size → (Jvm.Free.Multi.fill (T.setVm vm₁) (G.2 4) (G.2 0) n n (defaultValue .int) n).heap[a]? = T.heap[a]? := fun a ha => Jvm.Free.Multi.fill_old (T.setVm vm₁) _ _ _ _ _ ha n
  have f4 : ∀ j, j < n → (Jvm.Free.Multi.fill (T.setVm vm₁) (G.2 4) (G.2 0) n n (defaultValue .int) n).heap[T.heap.size + 1 + j]? = some (Jvm.Free.Multi.innerC (G.2 0) n (defaultValue .int)) := fun j hj => Jvm.Free.Multi.fill_inner (T.setVm vm₁) _ _ _ _ _ n j hj
  revert X1 step f1 f2 f3 f4
  generalize Jvm.Free.Multi.fill (T.setVm vm₁) (G.2 4) (G.2 0) n n (defaultValue .int) n = U
  intro X1 step f1 f2 f3 f4
  have f1 : U.heap.size = H.size + 1 + n := by rw [← hT]; exact f1
  have f2 : U.heap[H.size]? = some (Jvm.Free.Multi.outerC (G.2 4) n H.size n) := by rw [← hT]; exact f2
  rw [hT] at f3 f4
  have hF : zF M0 H U.heap := ⟨by omega, fun q hq _ => f3 q hq⟩
  have hN : NW G H U.heap ([(H.size, zII G n (fun i => some (H.size + 1 + i)))] ++ zRows G n n (fun i => H.size + 1 + i) (fun _ _ => 0)) := by
    have e0 : zAt G H.size (zII G n (fun i => some (H.size + 1 + i))) U.heap := by
      show U.heap[H.size]? = some (vp_cell (G.2 4) (n, .inr (.inr (.inr (.inr (fun i => some (H.size + 1 + i)))))))
      rw [f2, vp_cell_q, outer_arr]
      congr 1
      exact arrV_congr (fun j hj => by rw [if_pos hj]; rfl)
    have e1 : ∀ i, i < n → zAt G (H.size + 1 + i) (zI G n (fun _ => 0)) U.heap := by
      intro i hi
      show U.heap[H.size + 1 + i]? = some (vp_cell (G.2 0) (n, .inl (fun _ => iI 0)))
      rw [f4 i hi, vp_cell_i]
      exact congrArg some (arrV_new (G.2 0) n (defaultValue .int))
    refine ⟨va_P.app (zP1 e0) (zRows_P e1), va_D.app (zD1 (Nat.le_refl _)) (zRows_D (fun i hi => by omega) (fun i j hi hj e => by omega)) (fun i j x y hx hy e => ?_)⟩
    obtain ⟨hj, rfl⟩ := zRows_inv hy
    cases i with
    | zero => cases hx; simp only at e; omega
    | succ i => cases hx
  obtain ⟨a1, a2⟩ := zjn hP hD hS.1 hF hN
  rw [← List.append_assoc, ← List.append_nil (zRows G n n (fun i => H.size + 1 + i) (fun _ _ => 0))] at a1 a2
  obtain ⟨t, b1, b2⟩ := W.widen (cells := cells + 1 + n) (slots := slots + n + n * n) (k := c1) (n := s1) (by omega) (by omega) (kk H.size U.heap hS.1 (Nat.le_refl _) a1 a2 ⟨by have := hS.1; omega, fun q hq hn => by rw [f3 q (by have := hS.1; omega)]; exact hS.2.1 q hq hn, hS.2.2⟩ hF) U rfl X1
  exact ⟨t, step t (by rw [← hT] at b1; exact b1), b2⟩
theorem z_aastII (h : zC p l s0 G s m args c own cc) (hP : va_P G.1 zCl ws H) (hD : va_D A ws) (hS : va_S A H0 H locs) (q0 : Nat) {a n k q nr : Nat} {f : Nat → Option Nat} {fr : Nat → Int} {x : Int} {ws' : va_W} (ha : ws[q0]? = some (a, zII G n f)) (hy : zAt G q (zI G nr fr) H) (hx : x = (k : Int)) (hk : k < n ∧ n < 2147483648) (hw : ws.set q0 (a, zII G n (va_up f k (some q))) = ws') (d : decode cc pc = .ok (.aastore, 1))
    (kk : ∀ (H1 : Heap) (locs1 : List Loc), va_P G.1 zCl ws' H1 → va_D A ws' → va_S A H0 H1 locs1 → W p l e R s m args below meth c H1 locs1 cells slots Q (F0 m (pc + 1) ls rest)) : W p l e R s m args below meth c H locs cells slots Q (F0 m pc ls (.ref q :: .int (iI x) :: .ref a :: rest)) := by
  subst hx
  obtain ⟨kA, k1, k2, k3⟩ := z_kII h
  obtain ⟨kC, hkC, -⟩ := Vm.findClass_spec k3
  have h1 : H[a]? = some (arrV (G.2 4) n (fun j => va_rf (f j))) := by
    have h2 : H[a]? = some (vp_cell (G.2 4) (n, .inr (.inr (.inr (.inr f))))) := hP q0 _ ha
    rw [vp_cell_q] at h2; exact h2
  have g1 : H[q]? = some (arrV (G.2 0) nr (fun j => .int (iI (fr j)))) := by
    have h2 : H[q]? = some (vp_cell (G.2 0) (nr, .inl (fun j => iI (fr j)))) := hy
    rw [vp_cell_i] at h2; exact h2
  refine W.aast h.x h.b h1 (fun q h => by cases h) (fun h => by cases h) k1 k2 rfl hkC ⟨by rw [iI_l0 ⟨by omega, by omega⟩]; omega, by rw [arrV_size, iI_cl (Nat.lt_trans hk.1 hk.2)]; exact hk.1⟩ g1 (fun q h => by cases h) hkC (by show s.vm.assignableAux (255 + 1) _ _ = true; rw [Vm.assignableAux]; simp [arrV]) rfl rfl d (fun H1 e1 z1 o1 => ?_)
  rw [iI_cl (Nat.lt_trans hk.1 hk.2)] at e1 ⊢
  have he : zAt G a (zII G n (va_up f k (some q))) H1 := by
    show H1[a]? = some (vp_cell (G.2 4) (n, .inr (.inr (.inr (.inr (va_up f k (some q)))))))
    rw [e1, vp_cell_q, arrV_store]
    congr 2
    funext j
    by_cases hj : j = k
    · subst hj; simp [updV, va_up, va_rf]
    · simp [updV, va_up, hj]
  subst hw
  exact kk H1 _ (hP.set hD ha he o1) (hD.set ha) (hS.put z1 o1 (hD.2 q0 _ ha))
/-- new int[n][] -/
theorem z_newII (h : zC p l s0 G s m args c own cc) (hP : va_P G.1 zCl ws H) (hD : va_D (zA M H0) ws) (hS : va_S (zA M H0) H0 H locs) {N index : Nat} {x : Int} {c1 s1 : Nat} {ws' : Nat → va_W} (hcl : Cond.classLink own index "[I" ∈ lw_all) (hx : x = (N : Int)) (hN : N ≤ 134217728) (hc : cells + 1 ≤ R.cells ∧ slots + N ≤ R.slots) (h1 : cells + 1 ≤ c1 ∧ slots + N ≤ s1) (hw : ∀ q, ws ++ [(q, zII G N (fun _ => none))] = ws' q) (d : decode cc pc = .ok (.anewarray index, 3))
    (kk : ∀ (q : Nat) (H1 : Heap), H0.size ≤ q → H.size ≤ q → va_P G.1 zCl (ws' q) H1 → va_D (zA M H0) (ws' q) → va_S (zA M H0) H0 H1 locs → zF M0 H H1 → W p l e R s m args below meth c H1 locs c1 s1 Q (F0 m (pc + 3) ls (.ref q :: rest))) : W p l e R s m args below meth c H locs cells slots Q (F0 m pc ls (.int (iI x) :: rest)) := by
  subst hx
  have hN2 : N < 2147483648 := by omega
  refine W.anewA (n := iI (N : Int)) (t := .int) h.x h.b h.o (h.t _ hcl) (z_aoI h) rfl d rfl (fun z => by rw [iI_l0 ⟨by omega, by omega⟩] at z; omega) (by rw [iI_cl hN2]; omega) hc.1 (by rw [iI_cl hN2]; exact hc.2) (fun cA kA comp f1 f2 f3 f4 => ?_)
  rw [iI_cl hN2]
  have hcA : cA = G.2 4 := Option.some.inj (f1.symm.trans (h.k.2 4 _ rfl).2)
  subst hcA
  generalize hH1 : H.push ({ cls := G.2 4, slots := Array.replicate N .null, vm := .none } : Cell) = H1
  have z1 : H1.size = H.size + 1 := by rw [← hH1, Array.size_push]
  have e1 : H1[H.size]? = some (arrV (G.2 4) N (fun _ => .null)) := by rw [← hH1, Array.getElem?_push_size, ← arrV_new]
  have o1 : ∀ q : Nat, q < H.size → H1[q]? = H[q]? := fun q hq => by rw [← hH1, Array.getElem?_push, if_neg (Nat.ne_of_lt hq)]
  have he : zAt G H.size (zII G N (fun _ => none)) H1 := by
    show H1[H.size]? = some (vp_cell (G.2 4) (N, .inr (.inr (.inr (.inr (fun _ => none))))))
    rw [e1, vp_cell_q]; rfl
  obtain ⟨a1, a2, a3⟩ := z_push (M := M) hP hD hS rfl he (by omega) o1
  rw [hw] at a1 a2
  exact W.widen h1.1 h1.2 (kk H.size H1 hS.1 (Nat.le_refl _) a1 a2 a3 ⟨by omega, fun q hq _ => o1 q hq⟩)
/-- a row of an array of rows -/
theorem z_aaldT (h : zC p l s0 G s m args c own cc) {a n k : Nat} {f : Nat → Option Nat} {x : Int} {q : Nat} (ha : zAt G a (zII G n f) H) (hx : x = (k : Int)) (hk : k < n ∧ n < 2147483648) (hq : f k = some q) (d : decode cc pc = .ok (.aaload, 1))
    (kk : W p l e R s m args below meth c H locs cells slots Q (F0 m (pc + 1) ls (.ref q :: rest))) : W p l e R s m args below meth c H locs cells slots Q (F0 m pc ls (.int (iI x) :: .ref a :: rest)) := z_aald h ha hx hk hq d kk
end MA
theorem zR_at2 {G : zG} {n n1 k k1 : Nat} {ro r1 : Nat → Nat} {F F1 : Nat → Nat → Int} {pre T : va_W} {L i : Nat} (hL : pre.length = L) (h : i < k) : (pre ++ (zRows G n1 k1 r1 F1 ++ (zRows G n k ro F ++ T)))[L + k1 + i]? = some (ro i, zI G n (F i)) := by
  rw [← List.append_assoc]
  exact zR_at (by rw [List.length_append, zRows_len, hL]) h
theorem zR_set2 {G : zG} {n n1 k k1 : Nat} {ro r1 : Nat → Nat} {F F1 : Nat → Nat → Int} {pre T : va_W} {L i : Nat} {f : Nat → Int} (hL : pre.length = L) (h : i < k) : (pre ++ (zRows G n1 k1 r1 F1 ++ (zRows G n k ro F ++ T))).set (L + k1 + i) (ro i, zI G n f) = pre ++ (zRows G n1 k1 r1 F1 ++ (zRows G n k ro (fun j => if j = i then f else F j) ++ T)) := by
  rw [← List.append_assoc, zR_set (by rw [List.length_append, zRows_len, hL]) h, List.append_assoc]
