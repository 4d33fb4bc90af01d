/-! ROWS: longs -/
set_option maxRecDepth 100000
theorem lI_sub (a b : Int) : lI a - lI b = lI (a - b) := (Int64.ofInt_sub a b).symm
theorem bmod_id {z : Int} (h : -9223372036854775808 ≤ z ∧ z < 9223372036854775808) : z.bmod (2 ^ 64) = z := by
  rw [Int.bmod_def]; omega
theorem lI_rem {a b : Int} (ha : 0 ≤ a ∧ a < 1000000) (hb : 0 < b ∧ b < 100) : lI a - lI a / lI b * lI b = lI (a % b) := by
  have h1 : 0 ≤ a / b := Int.ediv_nonneg ha.1 (by omega)
  have h2 : a / b ≤ a := Int.ediv_le_self b ha.1
  have e : lI a / lI b = lI (a / b) := by
    rw [← Int64.toInt_inj, Int64.toInt_div, lI_toInt ⟨by omega, by omega⟩, lI_toInt ⟨by omega, by omega⟩, lI_toInt ⟨by omega, by omega⟩, Int.tdiv_eq_ediv_of_nonneg ha.1, bmod_id ⟨by omega, by omega⟩]
  rw [e, lI_mul, lI_sub]
  congr 1
  have := Int.emod_add_mul_ediv a b
  rw [Int.mul_comm] at this
  omega
def lcp (a b : Int) : Int := if b < a then 1 else if a = b then 0 else -1
theorem lcp_in (a b : Int) : -1 ≤ lcp a b ∧ lcp a b ≤ 1 := by unfold lcp; split; decide; split <;> decide
theorem lcp_0 (a b : Int) : lcp a b = 0 ↔ a = b := by
  unfold lcp
  constructor
  · intro h; split at h; cases h; split at h; assumption; cases h
  · intro h; rw [if_neg (by omega), if_pos h]
def ziL (z : Int) : Prop := -9223372036854775808 ≤ z ∧ z < 9223372036854775808
theorem lI_lt {a b : Int} (ha : ziL a) (hb : ziL b) : lI a < lI b ↔ a < b := by rw [Int64.lt_iff_toInt_lt, lI_toInt ha, lI_toInt hb]
theorem lI_inj {a b : Int} (ha : ziL a) (hb : ziL b) : lI a = lI b ↔ a = b := by rw [← Int64.toInt_inj, lI_toInt ha, lI_toInt hb]
section LO
variable {p : Program} {l : Launch} {e : Env} {R : Room} {s : State} {m : MethodId} {args : Array Value} {below : List Frame} {meth : Method} {c : Code} {H : Heap} {locs : List Loc} {cells slots : Nat} {Q : State → Prop}
variable {cc : ByteArray} {pc : Nat} {ls : Array Slot} {rest : List Value} {s0 : State} {G : zG} {own : String} {A : Nat → Prop} {H0 : Heap} {ws : va_W} {M : Nat → Prop}
theorem z_lrem (hx : p.tables.exec = Jvm.exec) (hb : c.code = cc) {a b z : Int} (d : decode cc pc = .ok (.lrem, 1)) (ha : (0 ≤ a ∧ a < 1000000) ∧ 0 < b ∧ b < 100) (hz : a % b = z) (k : W p l e R s m args below meth c H locs cells slots Q (F0 m (pc + 1) ls (.long (lI z) :: rest))) : W p l e R s m args below meth c H locs cells slots Q (F0 m pc ls (.long (lI b) :: .long (lI a) :: rest)) :=
  lv_lrem hx hb d (fun q => by
    have := (lI_inj (a := b) (b := 0) ⟨by omega, by omega⟩ ⟨by omega, by omega⟩).mp q
    omega) (by rw [lI_rem ha.1 ha.2, hz]; exact k)
theorem z_lcmp (hx : p.tables.exec = Jvm.exec) (hb : c.code = cc) {a b : Int} (d : decode cc pc = .ok (.lcmp, 1)) (ha : ziL a ∧ ziL b) (k : W p l e R s m args below meth c H locs cells slots Q (F0 m (pc + 1) ls (.int (iI (lcp a b)) :: rest))) : W p l e R s m args below meth c H locs cells slots Q (F0 m pc ls (.long (lI b) :: .long (lI a) :: rest)) :=
  W.lcmp hx hb d (by
    have : lg_cmp (lI a) (lI b) = iI (lcp a b) := by
      unfold lg_cmp lcp
      by_cases h1 : b < a
      · rw [if_pos h1]; simp [(lI_lt ha.2 ha.1).mpr h1]; rfl
      · by_cases h2 : a = b
        · subst h2; simp [Int64.lt_irrefl]; rfl
        · have h3 : ¬ lI b < lI a := fun z => h1 ((lI_lt ha.2 ha.1).mp z)
          have h4 : ¬ lI a = lI b := fun z => h2 ((lI_inj ha.1 ha.2).mp z)
          rw [if_neg h1, if_neg h2]; simp [h3, h4]; rfl
    rw [this]; exact k)
theorem z_last (h : zC p l s0 G s m args c own cc) (hP : va_P G.1 zCl ws H) (hD : va_D A ws) (hS : va_S A H0 H locs) (q0 : Nat) {a n k : Nat} {v : Nat → Int} {x y : Int} {ws' : va_W} (ha : ws[q0]? = some (a, zJ G n v)) (hx : x = (k : Int)) (hk : k < n ∧ n < 2147483648) (hw : ws.set q0 (a, zJ G n (va_up v k y)) = ws') (d : decode cc pc = .ok (.lastore, 1))
    (kk : ∀ (H1 : Heap) (locs1 : List Loc), va_P G.1 zCl ws' H1 → va_D A ws' → va_S A H0 H1 locs1 → W p l e R s m args below meth c H1 locs1 cells slots Q (F0 m (pc + 1) ls rest)) : W p l e R s m args below meth c H locs cells slots Q (F0 m pc ls (.long (lI y) :: .int (iI x) :: .ref a :: rest)) := by
  subst hx
  refine va_last h.x h.b h.k hP hD hS q0 1 ha rfl (iI_in hk.1 hk.2) d ?_
  rw [iI_cl (Nat.lt_trans hk.1 hk.2)]
  have e : vp_updL (fun j => lI (v j)) k (lI y) = fun j => lI (va_up v k y j) := by
    funext j
    by_cases hj : j = k
    · subst hj; simp [vp_updL, va_up]
    · simp [vp_updL, va_up, hj]
  rw [e]
  subst hw
  exact kk
theorem z_newj (h : zC p l s0 G s m args c own cc) (hP : va_P G.1 zCl ws H) (hD : va_D (zA M H0) ws) (hS : va_S (zA M H0) H0 H locs) {N : Nat} {x : Int} {c1 s1 : Nat} {ws' : Nat → va_W} (hx : x = (N : Int)) (hN : N ≤ 1000) (hc : cells + 1 ≤ R.cells ∧ slots + N ≤ R.slots) (h1 : cells + 1 ≤ c1 ∧ slots + N ≤ s1) (hw : ∀ q, ws ++ [(q, zJ G N (fun _ => 0))] = ws' q) (d : decode cc pc = .ok (.newarray .long, 2))
    (kk : ∀ (q : Nat) (H1 : Heap), H0.size ≤ q → H.size ≤ q → va_P G.1 zCl (ws' q) H1 → va_D (zA M H0) (ws' q) → va_S (zA M H0) H0 H1 locs → zF M0 H H1 → W p l e R s m args below meth c H1 locs c1 s1 Q (F0 m (pc + 2) ls (.ref q :: rest))) : W p l e R s m args below meth c H locs cells slots Q (F0 m pc ls (.int (iI x) :: rest)) := by
  subst hx
  have hN2 : N < 2147483648 := by omega
  refine va_newaK (atype := .long) (n := iI (N : Int)) (N := N) h.x h.b (h.t _ q579) rfl d rfl (fun z => by rw [iI_l0 ⟨by omega, by omega⟩] at z; omega) (iI_cl hN2) (show N * 8 ≤ _ by omega) hc.1 hc.2 rfl (fun H1 cA e1 z1 o1 _ hf => ?_)
  have hcA : cA = G.2 1 := Option.some.inj (hf.symm.trans (h.k.2 1 _ rfl).2)
  subst hcA
  have he : zAt G H.size (zJ G N (fun _ => 0)) H1 := by
    show H1[H.size]? = some (vp_cell (G.2 1) (N, .inr (.inl (fun _ => lI 0))))
    rw [e1, vp_cell_l]; rfl
  obtain ⟨a1, a2, a3⟩ := z_push (M := M) hP hD hS rfl he (by omega) o1
  rw [hw] at a1 a2
  exact W.widen h1.1 h1.2 (kk H.size H1 hS.1 (Nat.le_refl _) a1 a2 a3 ⟨by omega, fun q hq _ => o1 q hq⟩)
end LO
