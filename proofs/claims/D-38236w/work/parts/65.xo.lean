/-! THE HOUSE: the checksum -/
set_option maxRecDepth 100000
/-- what an int is once it is one -/
def wz (z : Int) : Int := (iI z).toInt
section WZ
variable {p : Program} {l : Launch} {e : Env} {R : Room} {s : State} {m : MethodId} {args : Array Value} {below : List Frame} {meth : Method} {c : Code} {H : Heap} {locs : List Loc} {cells slots : Nat} {Q : State → Prop}
variable {cc : ByteArray} {pc : Nat} {ls : Array Slot} {rest : List Value} {s0 : State} {G : zG} {own : String}
theorem z_i2lW (hx : p.tables.exec = Jvm.exec) (hb : c.code = cc) {z : Int} (d : decode cc pc = .ok (.i2l, 1)) (k : W p l e R s m args below meth c H locs cells slots Q (F0 m (pc + 1) ls (.long (lI (wz z)) :: rest))) : W p l e R s m args below meth c H locs cells slots Q (F0 m pc ls (.int (iI z) :: rest)) := by
  have h1 : iI (wz z) = iI z := Int32.ofInt_toInt (iI z)
  rw [← h1]
  exact z_i2l hx hb d ⟨Int32.le_toInt (iI z), Int32.toInt_lt (iI z)⟩ k
theorem z_ldc2 (h : zC p l s0 G s m args c own cc) {index : Nat} {x : Int64} {z : Int} (hq : Cond.constantLong own index x ∈ lw_all) (hz : x = lI z) (d : decode cc pc = .ok (.ldc2_w index, 3)) (k : W p l e R s m args below meth c H locs cells slots Q (F0 m (pc + 3) ls (.long (lI z) :: rest))) : W p l e R s m args below meth c H locs cells slots Q (F0 m pc ls rest) := by
  subst hz
  exact lv_ldc2 h.x h.b h.o (h.t _ hq) d k
end WZ
/-- a sum goes on over n values -/
def dgM (f : Nat → Int) (s : Int) : Nat → Int
  | 0 => s
  | n + 1 => dgM f s n * 31 + wz (f n)
def dgI (f : Int → Nat → Int) (s : Int) : Nat → Int
  | 0 => s
  | n + 1 => f (dgI f s n) n
def dgA (σ : St) (s : Int) (k : Nat) : Int := dgM (mnw σ k) (dgM (fun z => rwV (St_p σ) (St_d σ k) (St_dv σ k) (z : Int)) (dgM (fun w => brV (St_p σ) (St_sg σ k) (St_n σ k) w) (dgM (oaV σ k) s 6) 4) 2) (St_na σ)
noncomputable def dgE (σ : St) (s : Int) (j : Nat) : Int := dgM (oeV σ j) (dgM (St_ev σ j) s (St_n σ (St_ea σ j))) 10 * 31 + wz ((txF (St_n σ (St_ea σ j)) (St_ev σ j)).length : Nat)
noncomputable def dgV (σ : St) : Int := dgI (dgE σ) (dgI (dgA σ) (dgM (myV σ) 58236 8) (St_na σ)) (St_ne σ)
theorem dgL_l2 (v : Nat) : (dgL v).length ≤ 2 := by unfold dgL; split <;> simp
theorem plL_len (L : List Int) : (plL L).length ≤ L.length + 1 := by unfold plL; split <;> simp
theorem txL_len (v : Nat → Int) : ∀ n, (txL v n).length ≤ 6 * n
  | 0 => by simp [txL]
  | n + 1 => by
    have h := txL_len v n
    simp only [txL]
    split
    · omega
    · simp only [List.length_append, List.length_cons, List.length_nil]
      have := plL_len (txL v n)
      have := dgL_l2 (v n).toNat
      have := dgL_l2 n
      omega
theorem txF_len (v : Nat → Int) (n : Nat) : (txF n v).length ≤ 6 * n + 1 := by
  unfold txF
  split
  · simp
  · have := txL_len v n; omega
abbrev rm_m_X1_add : Room := { frames := 0, cells := 0, slots := 0, locals := 0 }
set_option maxHeartbeats 4000000 in
theorem m_X1_add {l : Launch} {s0 : State} {G : zG} (hE : zE l s0 G) (H0 : Heap) (hO : zO s0 H0) (ρ : Ro → Nat) (σ : St) (sm n : Int) (hh : HC G s0 ρ σ H0) (hX9 : zAt G (ρ (0, 0, 0)) (zOb 0 [.int (iI (St_p σ)), .ref (ρ (1, 0, 0)), .ref (ρ (3, 0, 0)), .ref (ρ (5, 0, 0)), .int (iI (St_kn σ : Int)), .long (lI (sm))]) H0) : zM l s0 yX1_add cX1_add 4 (some FieldType.long) rm_m_X1_add [.ref (ρ (0, 0, 0)), .int (iI n)] H0 (fun z => z = ρ (0, 0, 0)) (rl (fun y h1 => y = sm * 31 + wz n ∧ zAt G (ρ (0, 0, 0)) (zOb 0 [.int (iI (St_p σ)), .ref (ρ (1, 0, 0)), .ref (ρ (3, 0, 0)), .ref (ρ (5, 0, 0)), .int (iI (St_kn σ : Int)), .long (lI (sm * 31 + wz n))]) h1)) := by
  refine z_met hE (by decide +kernel) (Nat.le_of_ble_eq_true rfl) ?_
  intro pp ee ss mm args below meth cd Q ls hC hml hrt hlk hnm hH hQ hS hl
  have hx := hC.x
  have hb := hC.b
  have hl : lv_has ls 4 [(0, .ref (ρ (0, 0, 0))), (1, .int (iI n))] := hl
  have hP : va_P G.1 zCl [((ρ (0, 0, 0)), zOb 0 [.int (iI (St_p σ)), .ref (ρ (1, 0, 0)), .ref (ρ (3, 0, 0)), .ref (ρ (5, 0, 0)), .int (iI ((St_kn σ : Nat) : Int)), .long (lI sm)])] H0 := zP1 hX9
  have hD : va_D (zA (fun z => z = ρ (0, 0, 0)) H0) [((ρ (0, 0, 0)), zOb 0 [.int (iI (St_p σ)), .ref (ρ (1, 0, 0)), .ref (ρ (3, 0, 0)), .ref (ρ (5, 0, 0)), .int (iI ((St_kn σ : Nat) : Int)), .long (lI sm)])] := zD1 (Or.inl rfl)
  have hMo : ∀ z, (fun z => z = ρ (0, 0, 0)) z → s0.heap.size ≤ z := fun z hz => hz ▸ hh.sep.ge (dom0 0 (by omega)) (by simp)
  refine lv_aload_n hx hb dX1_add_0 rfl (lv_at hl 0 rfl) ?_
  refine lv_aload_n hx hb dX1_add_1 rfl (lv_at hl 0 rfl) ?_
  refine z_get hC (k := 5) rfl in_X1 (hP 0 _ rfl) (by decide) q156 (fun _ h => h) rfl dX1_add_2 ?_
  refine z_ldc2 (z := 31) hC q367 (by decide) dX1_add_5 ?_
  refine z_lmul hx hb (z := sm * 31) dX1_add_8 rfl ?_
  refine lv_iload_n hx hb dX1_add_9 rfl (lv_at hl 1 rfl) ?_
  refine z_i2lW hx hb dX1_add_10 ?_
  refine z_ladd hx hb (z := (sm * 31) + (wz n)) dX1_add_11 rfl ?_
  refine lv_dup2_x1_2 hx hb dX1_add_12 rfl rfl ?_
  refine z_put hC hP hD hS 0 (k := 5) rfl rfl in_X1 tyX1_ok nmX1 (by decide) q156 (fun _ h => h) rfl rfl rfl rfl (Nat.le_of_ble_eq_true rfl) (ws' := [((ρ (0, 0, 0)), zOb 0 [.int (iI (St_p σ)), .ref (ρ (1, 0, 0)), .ref (ρ (3, 0, 0)), .ref (ρ (5, 0, 0)), .int (iI ((St_kn σ : Nat) : Int)), .long (lI ((sm * 31) + (wz n)))])]) rfl dX1_add_13 (fun H1 locs hP hD hS => ?_)
  refine lv_lstore_n (lv' := [(2, .long (lI ((sm * 31) + (wz n)))), (0, .ref (ρ (0, 0, 0))), (1, .int (iI n))]) hx hb dX1_add_16 rfl hl (by decide) rfl (fun ls hl => ?_)
  refine lv_lload_n hx hb dX1_add_17 rfl (lv_at hl 0 rfl) ?_
  exact z_lret hC hrt hlk hQ hS ⟨zle (z := 0) rfl (by omega), zle (z := 0) rfl (by omega)⟩ ⟨_, rfl, rfl, hP 0 _ rfl⟩ dX1_add_18

abbrev rm_m_X1_digest : Room := { frames := 8, cells := 3800, slots := 50000, locals := 196 }
set_option maxHeartbeats 4000000 in
theorem m_X1_digest {l : Launch} {s0 : State} {G : zG} (hE : zE l s0 G) (H0 : Heap) (hO : zO s0 H0) (ρ : Ro → Nat) (σ : St) (hh : HC G s0 ρ σ H0) : zM l s0 yX1_digest cX1_digest 6 (some FieldType.long) rm_m_X1_digest [.ref (ρ (0, 0, 0))] H0 (FC G ρ σ) (rl (fun y h1 => y = dgV σ ∧ HC G s0 ρ σ h1)) := by
  refine z_met hE (by decide +kernel) (Nat.le_of_ble_eq_true rfl) ?_
  intro pp ee ss mm args below meth cd Q ls hC hml hrt hlk hnm hH hQ hS hl
  have hx := hC.x
  have hb := hC.b
  have hl : lv_has ls 6 [(0, .ref (ρ (0, 0, 0)))] := hl
  have hP : va_P G.1 zCl [] H0 := va_nil
  have hD : va_D (zA (FC G ρ σ) H0) [] := va_nilD
  have hMo : ∀ z, FC G ρ σ z → s0.heap.size ≤ z := fun z hz => FC.ge hh.sep hz
  have hH1 := hh
  obtain ⟨hp, hna, hal, hne9, hel9, hmr9⟩ := id hh.ok
  have hp7 : 0 < St_p σ ∧ St_p σ ≤ 7 := by rcases hp with h | h | h <;> rw [h] <;> decide
  obtain ⟨sm9, -⟩ := id hh.2.2.1.1
  obtain ⟨sm8, hx8⟩ := id hH1.2.2.1.1
  have hP : va_P G.1 zCl [((ρ (0, 0, 0)), zOb 0 [.int (iI (St_p σ)), .ref (ρ (1, 0, 0)), .ref (ρ (3, 0, 0)), .ref (ρ (5, 0, 0)), .int (iI ((St_kn σ : Nat) : Int)), .long (lI sm8)])] H0 := zP1 hx8
  have hD : va_D (zA (FC G ρ σ) H0) [((ρ (0, 0, 0)), zOb 0 [.int (iI (St_p σ)), .ref (ρ (1, 0, 0)), .ref (ρ (3, 0, 0)), .ref (ρ (5, 0, 0)), .int (iI ((St_kn σ : Nat) : Int)), .long (lI sm8)])] := zD1 (Or.inl (FC.in hE hh.sep (dom0 0 (by omega)) (by simp)))
  refine lv_aload_n hx hb dX1_digest_0 rfl (lv_at hl 0 rfl) ?_
  refine z_ldc2 (z := 58236) hC q287 (by decide) dX1_digest_1 ?_
  refine z_putO hC hP hD hS 0 (k := 5) rfl rfl in_X1 tyX1_ok nmX1 (by decide) q156 (fun _ h => h) rfl rfl rfl rfl (Nat.le_of_ble_eq_true rfl) (ws' := [((ρ (0, 0, 0)), zOb 0 [.int (iI (St_p σ)), .ref (ρ (1, 0, 0)), .ref (ρ (3, 0, 0)), .ref (ρ (5, 0, 0)), .int (iI ((St_kn σ : Nat) : Int)), .long (lI 58236)])]) rfl dX1_digest_4 (fun H1 locs hP hD hS hZ1 hZ2 => ?_)
  have hX9 : zAt G (ρ (0, 0, 0)) (zOb 0 [.int (iI (St_p σ)), .ref (ρ (1, 0, 0)), .ref (ρ (3, 0, 0)), .ref (ρ (5, 0, 0)), .int (iI (St_kn σ : Int)), .long (lI (58236))]) H1 := hP 0 _ rfl
  have hH1 : HC G s0 ρ σ H1 := HC.kn hE hH1 (zF.one hZ1 hZ2) hX9
  have hP : va_P G.1 zCl [] H1 := va_nil
  have hD : va_D (zA (FC G ρ σ) H0) [] := va_nilD
  refine lv_iconst (v := iI 0) hx hb dX1_digest_7 rfl ?_
  refine lv_istore_n (lv' := [(1, .int (iI 0)), (0, .ref (ρ (0, 0, 0)))]) hx hb dX1_digest_8 rfl hl (by decide) rfl (fun ls hl => ?_)
  refine lv_iload_n hx hb dX1_digest_9 rfl (lv_at hl 0 rfl) ?_
  refine lv_bipush (v := iI 7) hx hb dX1_digest_10 (by decide) ?_
  refine z_cgt (tgt := 31) hx hb dX1_digest_12 (by decide) (by omega) (fun c2 => ?_) (fun c2 => ?_)
  · omega
  · refine lv_aload_n hx hb dX1_digest_15 rfl (lv_at hl 1 rfl) ?_
    refine lv_aload_n hx hb dX1_digest_16 rfl (lv_at hl 1 rfl) ?_
    refine lv_iload_n hx hb dX1_digest_17 rfl (lv_at hl 0 rfl) ?_
    obtain ⟨sm, hxx⟩ := id hH1.2.2.1.1
    refine z_go 0 0 (z_runV (As := [.int (iI 0)]) (rest := [.ref (ρ (0, 0, 0))]) hC hml hl.1 (m_X1_manyNow_0 hE H1 (hO.ext (zS_F hS) hMo) ρ σ hH1) (lw_V q288 q290 qs2 q62 q291) rfl nd_X1_manyNow rfl (z_rv hC (ci := 0) rfl hxx rfl) rfl (Nat.le_of_ble_eq_true rfl) ⟨Nat.le_of_ble_eq_true rfl, Nat.le_of_ble_eq_true rfl⟩ ⟨zfit (k := 0) (z := 3800) rfl rfl (by omega), zfit (k := 0) (z := 50000) rfl rfl (by omega)⟩ dX1_digest_18) ⟨zad (k := 0) rfl (by omega), zad (k := 0) rfl (by omega)⟩ hS (fun _ z => z.elim) (fun r H3 locs hp hF hS1 => ?_)
    obtain ⟨_, rfl, rfl⟩ := hp
    have hP := zpk hP hF
    have hP : va_P G.1 zCl ([]) H3 := hP
    have hD : va_D (zA (FC G ρ σ) H0) ([]) := hD
    have hH1 : HC G s0 ρ σ H3 := hH1.ext0 hE hF
    have hX9 : zAt G (ρ (0, 0, 0)) (zOb 0 [.int (iI (St_p σ)), .ref (ρ (1, 0, 0)), .ref (ρ (3, 0, 0)), .ref (ρ (5, 0, 0)), .int (iI (St_kn σ : Int)), .long (lI (58236))]) H3 := hX9.ext0 hF
    have hS := hS1
    have hX0 := hX9
    obtain ⟨sm, hxx⟩ := id hH1.2.2.1.1
    refine z_go 0 0 (z_runV (As := [.int (iI ((maV σ 0 : Nat) : Int))]) (rest := []) hC hml hl.1 (m_X1_add hE H3 (hO.ext (zS_F hS) hMo) ρ σ (58236) (((maV σ 0 : Nat) : Int)) hH1 hX0) (lw_V q363 q365 qs6 q62 q366) rfl nd_X1_add rfl (z_rv hC (ci := 0) rfl hxx rfl) rfl (Nat.le_of_ble_eq_true rfl) ⟨Nat.le_of_ble_eq_true rfl, Nat.le_of_ble_eq_true rfl⟩ ⟨zfit (k := 0) (z := 3800) rfl rfl (by omega), zfit (k := 0) (z := 50000) rfl rfl (by omega)⟩ dX1_digest_21) ⟨zad (k := 0) rfl (by omega), zad (k := 0) rfl (by omega)⟩ hS (fun z hz => Or.inl (hz ▸ FC.in hE hh.sep (dom0 0 (by omega)) (by simp))) (fun r H4 locs hp hF hS1 => ?_)
    obtain ⟨_, rfl, rfl, hX9⟩ := hp
    have hP : va_P G.1 zCl [] H4 := va_nil
    have hD : va_D (zA (FC G ρ σ) H0) [] := va_nilD
    have hP : va_P G.1 zCl ([]) H4 := hP
    have hD : va_D (zA (FC G ρ σ) H0) ([]) := hD
    have hH1 : HC G s0 ρ σ H4 := HC.kn hE hH1 hF hX9
    have hS := hS1
    refine lv_pop2_2 hx hb dX1_digest_24 rfl ?_
    refine z_iinc (z := 1) (lv' := [(1, .int (iI 1)), (0, .ref (ρ (0, 0, 0)))]) hx hb dX1_digest_25 hl (k := 0) rfl (by omega) (by decide) rfl (fun ls hl => ?_)
    refine lv_goto (tgt := 9) hx hb dX1_digest_28 (by decide) ?_
    refine lv_iload_n hx hb dX1_digest_9 rfl (lv_at hl 0 rfl) ?_
    refine lv_bipush (v := iI 7) hx hb dX1_digest_10 (by decide) ?_
    refine z_cgt (tgt := 31) hx hb dX1_digest_12 (by decide) (by omega) (fun c5 => ?_) (fun c5 => ?_)
    · omega
    · refine lv_aload_n hx hb dX1_digest_15 rfl (lv_at hl 1 rfl) ?_
      refine lv_aload_n hx hb dX1_digest_16 rfl (lv_at hl 1 rfl) ?_
      refine lv_iload_n hx hb dX1_digest_17 rfl (lv_at hl 0 rfl) ?_
      obtain ⟨sm, hxx⟩ := id hH1.2.2.1.1
      refine z_go 0 0 (z_runV (As := [.int (iI 1)]) (rest := [.ref (ρ (0, 0, 0))]) hC hml hl.1 (m_X1_manyNow_1 hE H4 (hO.ext (zS_F hS) hMo) ρ σ hH1) (lw_V q288 q290 qs2 q62 q291) rfl nd_X1_manyNow rfl (z_rv hC (ci := 0) rfl hxx rfl) rfl (Nat.le_of_ble_eq_true rfl) ⟨Nat.le_of_ble_eq_true rfl, Nat.le_of_ble_eq_true rfl⟩ ⟨zfit (k := 0) (z := 3800) rfl rfl (by omega), zfit (k := 0) (z := 50000) rfl rfl (by omega)⟩ dX1_digest_18) ⟨zad (k := 0) rfl (by omega), zad (k := 0) rfl (by omega)⟩ hS (fun _ z => z.elim) (fun r H6 locs hp hF hS1 => ?_)
      obtain ⟨_, rfl, rfl⟩ := hp
      have hP := zpk hP hF
      have hP : va_P G.1 zCl ([]) H6 := hP
      have hD : va_D (zA (FC G ρ σ) H0) ([]) := hD
      have hH1 : HC G s0 ρ σ H6 := hH1.ext0 hE hF
      have hX9 : zAt G (ρ (0, 0, 0)) (zOb 0 [.int (iI (St_p σ)), .ref (ρ (1, 0, 0)), .ref (ρ (3, 0, 0)), .ref (ρ (5, 0, 0)), .int (iI (St_kn σ : Int)), .long (lI ((58236) * 31 + wz (((maV σ 0 : Nat) : Int))))]) H6 := hX9.ext0 hF
      have hS := hS1
      have hX0 := hX9
      obtain ⟨sm, hxx⟩ := id hH1.2.2.1.1
      refine z_go 0 0 (z_runV (As := [.int (iI ((maV σ 1 : Nat) : Int))]) (rest := []) hC hml hl.1 (m_X1_add hE H6 (hO.ext (zS_F hS) hMo) ρ σ ((58236) * 31 + wz (((maV σ 0 : Nat) : Int))) (((maV σ 1 : Nat) : Int)) hH1 hX0) (lw_V q363 q365 qs6 q62 q366) rfl nd_X1_add rfl (z_rv hC (ci := 0) rfl hxx rfl) rfl (Nat.le_of_ble_eq_true rfl) ⟨Nat.le_of_ble_eq_true rfl, Nat.le_of_ble_eq_true rfl⟩ ⟨zfit (k := 0) (z := 3800) rfl rfl (by omega), zfit (k := 0) (z := 50000) rfl rfl (by omega)⟩ dX1_digest_21) ⟨zad (k := 0) rfl (by omega), zad (k := 0) rfl (by omega)⟩ hS (fun z hz => Or.inl (hz ▸ FC.in hE hh.sep (dom0 0 (by omega)) (by simp))) (fun r H7 locs hp hF hS1 => ?_)
      obtain ⟨_, rfl, rfl, hX9⟩ := hp
      have hP : va_P G.1 zCl [] H7 := va_nil
      have hD : va_D (zA (FC G ρ σ) H0) [] := va_nilD
      have hP : va_P G.1 zCl ([]) H7 := hP
      have hD : va_D (zA (FC G ρ σ) H0) ([]) := hD
      have hH1 : HC G s0 ρ σ H7 := HC.kn hE hH1 hF hX9
      have hS := hS1
      refine lv_pop2_2 hx hb dX1_digest_24 rfl ?_
      refine z_iinc (z := 2) (lv' := [(1, .int (iI 2)), (0, .ref (ρ (0, 0, 0)))]) hx hb dX1_digest_25 hl (k := 0) rfl (by omega) (by decide) rfl (fun ls hl => ?_)
      refine lv_goto (tgt := 9) hx hb dX1_digest_28 (by decide) ?_
      refine lv_iload_n hx hb dX1_digest_9 rfl (lv_at hl 0 rfl) ?_
      refine lv_bipush (v := iI 7) hx hb dX1_digest_10 (by decide) ?_
      refine z_cgt (tgt := 31) hx hb dX1_digest_12 (by decide) (by omega) (fun c8 => ?_) (fun c8 => ?_)
      · omega
      · refine lv_aload_n hx hb dX1_digest_15 rfl (lv_at hl 1 rfl) ?_
        refine lv_aload_n hx hb dX1_digest_16 rfl (lv_at hl 1 rfl) ?_
        refine lv_iload_n hx hb dX1_digest_17 rfl (lv_at hl 0 rfl) ?_
        obtain ⟨sm, hxx⟩ := id hH1.2.2.1.1
        refine z_go 0 0 (z_runV (As := [.int (iI 2)]) (rest := [.ref (ρ (0, 0, 0))]) hC hml hl.1 (m_X1_manyNow_2 hE H7 (hO.ext (zS_F hS) hMo) ρ σ hH1) (lw_V q288 q290 qs2 q62 q291) rfl nd_X1_manyNow rfl (z_rv hC (ci := 0) rfl hxx rfl) rfl (Nat.le_of_ble_eq_true rfl) ⟨Nat.le_of_ble_eq_true rfl, Nat.le_of_ble_eq_true rfl⟩ ⟨zfit (k := 0) (z := 3800) rfl rfl (by omega), zfit (k := 0) (z := 50000) rfl rfl (by omega)⟩ dX1_digest_18) ⟨zad (k := 0) rfl (by omega), zad (k := 0) rfl (by omega)⟩ hS (fun _ z => z.elim) (fun r H9 locs hp hF hS1 => ?_)
        obtain ⟨_, rfl, rfl⟩ := hp
        have hP := zpk hP hF
        have hP : va_P G.1 zCl ([]) H9 := hP
        have hD : va_D (zA (FC G ρ σ) H0) ([]) := hD
        have hH1 : HC G s0 ρ σ H9 := hH1.ext0 hE hF
        have hX9 : zAt G (ρ (0, 0, 0)) (zOb 0 [.int (iI (St_p σ)), .ref (ρ (1, 0, 0)), .ref (ρ (3, 0, 0)), .ref (ρ (5, 0, 0)), .int (iI (St_kn σ : Int)), .long (lI (((58236) * 31 + wz (((maV σ 0 : Nat) : Int))) * 31 + wz (((maV σ 1 : Nat) : Int))))]) H9 := hX9.ext0 hF
        have hS := hS1
        have hX0 := hX9
        obtain ⟨sm, hxx⟩ := id hH1.2.2.1.1
        refine z_go 0 0 (z_runV (As := [.int (iI ((maV σ 2 : Nat) : Int))]) (rest := []) hC hml hl.1 (m_X1_add hE H9 (hO.ext (zS_F hS) hMo) ρ σ (((58236) * 31 + wz (((maV σ 0 : Nat) : Int))) * 31 + wz (((maV σ 1 : Nat) : Int))) (((maV σ 2 : Nat) : Int)) hH1 hX0) (lw_V q363 q365 qs6 q62 q366) rfl nd_X1_add rfl (z_rv hC (ci := 0) rfl hxx rfl) rfl (Nat.le_of_ble_eq_true rfl) ⟨Nat.le_of_ble_eq_true rfl, Nat.le_of_ble_eq_true rfl⟩ ⟨zfit (k := 0) (z := 3800) rfl rfl (by omega), zfit (k := 0) (z := 50000) rfl rfl (by omega)⟩ dX1_digest_21) ⟨zad (k := 0) rfl (by omega), zad (k := 0) rfl (by omega)⟩ hS (fun z hz => Or.inl (hz ▸ FC.in hE hh.sep (dom0 0 (by omega)) (by simp))) (fun r H10 locs hp hF hS1 => ?_)
        obtain ⟨_, rfl, rfl, hX9⟩ := hp
        have hP : va_P G.1 zCl [] H10 := va_nil
        have hD : va_D (zA (FC G ρ σ) H0) [] := va_nilD
        have hP : va_P G.1 zCl ([]) H10 := hP
        have hD : va_D (zA (FC G ρ σ) H0) ([]) := hD
        have hH1 : HC G s0 ρ σ H10 := HC.kn hE hH1 hF hX9
        have hS := hS1
        refine lv_pop2_2 hx hb dX1_digest_24 rfl ?_
        refine z_iinc (z := 3) (lv' := [(1, .int (iI 3)), (0, .ref (ρ (0, 0, 0)))]) hx hb dX1_digest_25 hl (k := 0) rfl (by omega) (by decide) rfl (fun ls hl => ?_)
        refine lv_goto (tgt := 9) hx hb dX1_digest_28 (by decide) ?_
        refine lv_iload_n hx hb dX1_digest_9 rfl (lv_at hl 0 rfl) ?_
        refine lv_bipush (v := iI 7) hx hb dX1_digest_10 (by decide) ?_
        refine z_cgt (tgt := 31) hx hb dX1_digest_12 (by decide) (by omega) (fun c11 => ?_) (fun c11 => ?_)
        · omega
        · refine lv_aload_n hx hb dX1_digest_15 rfl (lv_at hl 1 rfl) ?_
          refine lv_aload_n hx hb dX1_digest_16 rfl (lv_at hl 1 rfl) ?_
          refine lv_iload_n hx hb dX1_digest_17 rfl (lv_at hl 0 rfl) ?_
          obtain ⟨sm, hxx⟩ := id hH1.2.2.1.1
          refine z_go 1 4 (z_runV (As := [.int (iI 3)]) (rest := [.ref (ρ (0, 0, 0))]) hC hml hl.1 (m_X1_manyNow_3 hE H10 (hO.ext (zS_F hS) hMo) ρ σ hH1) (lw_V q288 q290 qs2 q62 q291) rfl nd_X1_manyNow rfl (z_rv hC (ci := 0) rfl hxx rfl) rfl (Nat.le_of_ble_eq_true rfl) ⟨Nat.le_of_ble_eq_true rfl, Nat.le_of_ble_eq_true rfl⟩ ⟨zfit (k := 1) (z := 3800) rfl rfl (by omega), zfit (k := 4) (z := 50000) rfl rfl (by omega)⟩ dX1_digest_18) ⟨zad (k := 1) rfl (by omega), zad (k := 4) rfl (by omega)⟩ hS (fun _ z => z.elim) (fun r H12 locs hp hF hS1 => ?_)
          obtain ⟨_, rfl, rfl⟩ := hp
          have hP := zpk hP hF
          have hP : va_P G.1 zCl ([]) H12 := hP
          have hD : va_D (zA (FC G ρ σ) H0) ([]) := hD
          have hH1 : HC G s0 ρ σ H12 := hH1.ext0 hE hF
          have hX9 : zAt G (ρ (0, 0, 0)) (zOb 0 [.int (iI (St_p σ)), .ref (ρ (1, 0, 0)), .ref (ρ (3, 0, 0)), .ref (ρ (5, 0, 0)), .int (iI (St_kn σ : Int)), .long (lI ((((58236) * 31 + wz (((maV σ 0 : Nat) : Int))) * 31 + wz (((maV σ 1 : Nat) : Int))) * 31 + wz (((maV σ 2 : Nat) : Int))))]) H12 := hX9.ext0 hF
          have hS := hS1
          have hX0 := hX9
          obtain ⟨sm, hxx⟩ := id hH1.2.2.1.1
          refine z_go 1 4 (z_runV (As := [.int (iI ((maV σ 3 : Nat) : Int))]) (rest := []) hC hml hl.1 (m_X1_add hE H12 (hO.ext (zS_F hS) hMo) ρ σ ((((58236) * 31 + wz (((maV σ 0 : Nat) : Int))) * 31 + wz (((maV σ 1 : Nat) : Int))) * 31 + wz (((maV σ 2 : Nat) : Int))) (((maV σ 3 : Nat) : Int)) hH1 hX0) (lw_V q363 q365 qs6 q62 q366) rfl nd_X1_add rfl (z_rv hC (ci := 0) rfl hxx rfl) rfl (Nat.le_of_ble_eq_true rfl) ⟨Nat.le_of_ble_eq_true rfl, Nat.le_of_ble_eq_true rfl⟩ ⟨zfit (k := 0) (z := 3800) rfl rfl (by omega), zfit (k := 0) (z := 50000) rfl rfl (by omega)⟩ dX1_digest_21) ⟨zad (k := 0) rfl (by omega), zad (k := 0) rfl (by omega)⟩ hS (fun z hz => Or.inl (hz ▸ FC.in hE hh.sep (dom0 0 (by omega)) (by simp))) (fun r H13 locs hp hF hS1 => ?_)
          obtain ⟨_, rfl, rfl, hX9⟩ := hp
          have hP : va_P G.1 zCl [] H13 := va_nil
          have hD : va_D (zA (FC G ρ σ) H0) [] := va_nilD
          have hP : va_P G.1 zCl ([]) H13 := hP
          have hD : va_D (zA (FC G ρ σ) H0) ([]) := hD
          have hH1 : HC G s0 ρ σ H13 := HC.kn hE hH1 hF hX9
          have hS := hS1
          refine lv_pop2_2 hx hb dX1_digest_24 rfl ?_
          refine z_iinc (z := 4) (lv' := [(1, .int (iI 4)), (0, .ref (ρ (0, 0, 0)))]) hx hb dX1_digest_25 hl (k := 0) rfl (by omega) (by decide) rfl (fun ls hl => ?_)
          refine lv_goto (tgt := 9) hx hb dX1_digest_28 (by decide) ?_
          refine lv_iload_n hx hb dX1_digest_9 rfl (lv_at hl 0 rfl) ?_
          refine lv_bipush (v := iI 7) hx hb dX1_digest_10 (by decide) ?_
          refine z_cgt (tgt := 31) hx hb dX1_digest_12 (by decide) (by omega) (fun c14 => ?_) (fun c14 => ?_)
          · omega
          · refine lv_aload_n hx hb dX1_digest_15 rfl (lv_at hl 1 rfl) ?_
            refine lv_aload_n hx hb dX1_digest_16 rfl (lv_at hl 1 rfl) ?_
            refine lv_iload_n hx hb dX1_digest_17 rfl (lv_at hl 0 rfl) ?_
            obtain ⟨sm, hxx⟩ := id hH1.2.2.1.1
            refine z_go 61 704 (z_runV (As := [.int (iI 4)]) (rest := [.ref (ρ (0, 0, 0))]) hC hml hl.1 (m_X1_manyNow_4 hE H13 (hO.ext (zS_F hS) hMo) ρ σ hH1) (lw_V q288 q290 qs2 q62 q291) rfl nd_X1_manyNow rfl (z_rv hC (ci := 0) rfl hxx rfl) rfl (Nat.le_of_ble_eq_true rfl) ⟨Nat.le_of_ble_eq_true rfl, Nat.le_of_ble_eq_true rfl⟩ ⟨zfit (k := 60) (z := 3800) rfl rfl (by omega), zfit (k := 700) (z := 50000) rfl rfl (by omega)⟩ dX1_digest_18) ⟨zad (k := 60) rfl (by omega), zad (k := 700) rfl (by omega)⟩ hS (fun _ z => z.elim) (fun r H15 locs hp hF hS1 => ?_)
            obtain ⟨_, rfl, rfl⟩ := hp
            have hP := zpk hP hF
            have hP : va_P G.1 zCl ([]) H15 := hP
            have hD : va_D (zA (FC G ρ σ) H0) ([]) := hD
            have hH1 : HC G s0 ρ σ H15 := hH1.ext0 hE hF
            have hX9 : zAt G (ρ (0, 0, 0)) (zOb 0 [.int (iI (St_p σ)), .ref (ρ (1, 0, 0)), .ref (ρ (3, 0, 0)), .ref (ρ (5, 0, 0)), .int (iI (St_kn σ : Int)), .long (lI (((((58236) * 31 + wz (((maV σ 0 : Nat) : Int))) * 31 + wz (((maV σ 1 : Nat) : Int))) * 31 + wz (((maV σ 2 : Nat) : Int))) * 31 + wz (((maV σ 3 : Nat) : Int))))]) H15 := hX9.ext0 hF
            have hS := hS1
            have hX0 := hX9
            obtain ⟨sm, hxx⟩ := id hH1.2.2.1.1
            refine z_go 61 704 (z_runV (As := [.int (iI ((maV σ 4 : Nat) : Int))]) (rest := []) hC hml hl.1 (m_X1_add hE H15 (hO.ext (zS_F hS) hMo) ρ σ (((((58236) * 31 + wz (((maV σ 0 : Nat) : Int))) * 31 + wz (((maV σ 1 : Nat) : Int))) * 31 + wz (((maV σ 2 : Nat) : Int))) * 31 + wz (((maV σ 3 : Nat) : Int))) (((maV σ 4 : Nat) : Int)) hH1 hX0) (lw_V q363 q365 qs6 q62 q366) rfl nd_X1_add rfl (z_rv hC (ci := 0) rfl hxx rfl) rfl (Nat.le_of_ble_eq_true rfl) ⟨Nat.le_of_ble_eq_true rfl, Nat.le_of_ble_eq_true rfl⟩ ⟨zfit (k := 0) (z := 3800) rfl rfl (by omega), zfit (k := 0) (z := 50000) rfl rfl (by omega)⟩ dX1_digest_21) ⟨zad (k := 0) rfl (by omega), zad (k := 0) rfl (by omega)⟩ hS (fun z hz => Or.inl (hz ▸ FC.in hE hh.sep (dom0 0 (by omega)) (by simp))) (fun r H16 locs hp hF hS1 => ?_)
            obtain ⟨_, rfl, rfl, hX9⟩ := hp
            have hP : va_P G.1 zCl [] H16 := va_nil
            have hD : va_D (zA (FC G ρ σ) H0) [] := va_nilD
            have hP : va_P G.1 zCl ([]) H16 := hP
            have hD : va_D (zA (FC G ρ σ) H0) ([]) := hD
            have hH1 : HC G s0 ρ σ H16 := HC.kn hE hH1 hF hX9
            have hS := hS1
            refine lv_pop2_2 hx hb dX1_digest_24 rfl ?_
            refine z_iinc (z := 5) (lv' := [(1, .int (iI 5)), (0, .ref (ρ (0, 0, 0)))]) hx hb dX1_digest_25 hl (k := 0) rfl (by omega) (by decide) rfl (fun ls hl => ?_)
            refine lv_goto (tgt := 9) hx hb dX1_digest_28 (by decide) ?_
            refine lv_iload_n hx hb dX1_digest_9 rfl (lv_at hl 0 rfl) ?_
            refine lv_bipush (v := iI 7) hx hb dX1_digest_10 (by decide) ?_
            refine z_cgt (tgt := 31) hx hb dX1_digest_12 (by decide) (by omega) (fun c17 => ?_) (fun c17 => ?_)
            · omega
            · refine lv_aload_n hx hb dX1_digest_15 rfl (lv_at hl 1 rfl) ?_
              refine lv_aload_n hx hb dX1_digest_16 rfl (lv_at hl 1 rfl) ?_
              refine lv_iload_n hx hb dX1_digest_17 rfl (lv_at hl 0 rfl) ?_
              obtain ⟨sm, hxx⟩ := id hH1.2.2.1.1
              refine z_go 121 1404 (z_runV (As := [.int (iI 5)]) (rest := [.ref (ρ (0, 0, 0))]) hC hml hl.1 (m_X1_manyNow_5 hE H16 (hO.ext (zS_F hS) hMo) ρ σ hH1) (lw_V q288 q290 qs2 q62 q291) rfl nd_X1_manyNow rfl (z_rv hC (ci := 0) rfl hxx rfl) rfl (Nat.le_of_ble_eq_true rfl) ⟨Nat.le_of_ble_eq_true rfl, Nat.le_of_ble_eq_true rfl⟩ ⟨zfit (k := 60) (z := 3800) rfl rfl (by omega), zfit (k := 700) (z := 50000) rfl rfl (by omega)⟩ dX1_digest_18) ⟨zad (k := 60) rfl (by omega), zad (k := 700) rfl (by omega)⟩ hS (fun _ z => z.elim) (fun r H18 locs hp hF hS1 => ?_)
              obtain ⟨_, rfl, rfl⟩ := hp
              have hP := zpk hP hF
              have hP : va_P G.1 zCl ([]) H18 := hP
              have hD : va_D (zA (FC G ρ σ) H0) ([]) := hD
              have hH1 : HC G s0 ρ σ H18 := hH1.ext0 hE hF
              have hX9 : zAt G (ρ (0, 0, 0)) (zOb 0 [.int (iI (St_p σ)), .ref (ρ (1, 0, 0)), .ref (ρ (3, 0, 0)), .ref (ρ (5, 0, 0)), .int (iI (St_kn σ : Int)), .long (lI ((((((58236) * 31 + wz (((maV σ 0 : Nat) : Int))) * 31 + wz (((maV σ 1 : Nat) : Int))) * 31 + wz (((maV σ 2 : Nat) : Int))) * 31 + wz (((maV σ 3 : Nat) : Int))) * 31 + wz (((maV σ 4 : Nat) : Int))))]) H18 := hX9.ext0 hF
              have hS := hS1
              have hX0 := hX9
              obtain ⟨sm, hxx⟩ := id hH1.2.2.1.1
              refine z_go 121 1404 (z_runV (As := [.int (iI ((maV σ 5 : Nat) : Int))]) (rest := []) hC hml hl.1 (m_X1_add hE H18 (hO.ext (zS_F hS) hMo) ρ σ ((((((58236) * 31 + wz (((maV σ 0 : Nat) : Int))) * 31 + wz (((maV σ 1 : Nat) : Int))) * 31 + wz (((maV σ 2 : Nat) : Int))) * 31 + wz (((maV σ 3 : Nat) : Int))) * 31 + wz (((maV σ 4 : Nat) : Int))) (((maV σ 5 : Nat) : Int)) hH1 hX0) (lw_V q363 q365 qs6 q62 q366) rfl nd_X1_add rfl (z_rv hC (ci := 0) rfl hxx rfl) rfl (Nat.le_of_ble_eq_true rfl) ⟨Nat.le_of_ble_eq_true rfl, Nat.le_of_ble_eq_true rfl⟩ ⟨zfit (k := 0) (z := 3800) rfl rfl (by omega), zfit (k := 0) (z := 50000) rfl rfl (by omega)⟩ dX1_digest_21) ⟨zad (k := 0) rfl (by omega), zad (k := 0) rfl (by omega)⟩ hS (fun z hz => Or.inl (hz ▸ FC.in hE hh.sep (dom0 0 (by omega)) (by simp))) (fun r H19 locs hp hF hS1 => ?_)
              obtain ⟨_, rfl, rfl, hX9⟩ := hp
              have hP : va_P G.1 zCl [] H19 := va_nil
              have hD : va_D (zA (FC G ρ σ) H0) [] := va_nilD
              have hP : va_P G.1 zCl ([]) H19 := hP
              have hD : va_D (zA (FC G ρ σ) H0) ([]) := hD
              have hH1 : HC G s0 ρ σ H19 := HC.kn hE hH1 hF hX9
              have hS := hS1
              refine lv_pop2_2 hx hb dX1_digest_24 rfl ?_
              refine z_iinc (z := 6) (lv' := [(1, .int (iI 6)), (0, .ref (ρ (0, 0, 0)))]) hx hb dX1_digest_25 hl (k := 0) rfl (by omega) (by decide) rfl (fun ls hl => ?_)
              refine lv_goto (tgt := 9) hx hb dX1_digest_28 (by decide) ?_
              refine lv_iload_n hx hb dX1_digest_9 rfl (lv_at hl 0 rfl) ?_
              refine lv_bipush (v := iI 7) hx hb dX1_digest_10 (by decide) ?_
              refine z_cgt (tgt := 31) hx hb dX1_digest_12 (by decide) (by omega) (fun c20 => ?_) (fun c20 => ?_)
              · omega
              · refine lv_aload_n hx hb dX1_digest_15 rfl (lv_at hl 1 rfl) ?_
                refine lv_aload_n hx hb dX1_digest_16 rfl (lv_at hl 1 rfl) ?_
                refine lv_iload_n hx hb dX1_digest_17 rfl (lv_at hl 0 rfl) ?_
                obtain ⟨sm, hxx⟩ := id hH1.2.2.1.1
                refine z_go 121 1404 (z_runV (As := [.int (iI 6)]) (rest := [.ref (ρ (0, 0, 0))]) hC hml hl.1 (m_X1_manyNow_6 hE H19 (hO.ext (zS_F hS) hMo) ρ σ hH1) (lw_V q288 q290 qs2 q62 q291) rfl nd_X1_manyNow rfl (z_rv hC (ci := 0) rfl hxx rfl) rfl (Nat.le_of_ble_eq_true rfl) ⟨Nat.le_of_ble_eq_true rfl, Nat.le_of_ble_eq_true rfl⟩ ⟨zfit (k := 0) (z := 3800) rfl rfl (by omega), zfit (k := 0) (z := 50000) rfl rfl (by omega)⟩ dX1_digest_18) ⟨zad (k := 0) rfl (by omega), zad (k := 0) rfl (by omega)⟩ hS (fun _ z => z.elim) (fun r H21 locs hp hF hS1 => ?_)
                obtain ⟨_, rfl, rfl⟩ := hp
                have hP := zpk hP hF
                have hP : va_P G.1 zCl ([]) H21 := hP
                have hD : va_D (zA (FC G ρ σ) H0) ([]) := hD
                have hH1 : HC G s0 ρ σ H21 := hH1.ext0 hE hF
                have hX9 : zAt G (ρ (0, 0, 0)) (zOb 0 [.int (iI (St_p σ)), .ref (ρ (1, 0, 0)), .ref (ρ (3, 0, 0)), .ref (ρ (5, 0, 0)), .int (iI (St_kn σ : Int)), .long (lI (((((((58236) * 31 + wz (((maV σ 0 : Nat) : Int))) * 31 + wz (((maV σ 1 : Nat) : Int))) * 31 + wz (((maV σ 2 : Nat) : Int))) * 31 + wz (((maV σ 3 : Nat) : Int))) * 31 + wz (((maV σ 4 : Nat) : Int))) * 31 + wz (((maV σ 5 : Nat) : Int))))]) H21 := hX9.ext0 hF
                have hS := hS1
                have hX0 := hX9
                obtain ⟨sm, hxx⟩ := id hH1.2.2.1.1
                refine z_go 121 1404 (z_runV (As := [.int (iI ((maV σ 6 : Nat) : Int))]) (rest := []) hC hml hl.1 (m_X1_add hE H21 (hO.ext (zS_F hS) hMo) ρ σ (((((((58236) * 31 + wz (((maV σ 0 : Nat) : Int))) * 31 + wz (((maV σ 1 : Nat) : Int))) * 31 + wz (((maV σ 2 : Nat) : Int))) * 31 + wz (((maV σ 3 : Nat) : Int))) * 31 + wz (((maV σ 4 : Nat) : Int))) * 31 + wz (((maV σ 5 : Nat) : Int))) (((maV σ 6 : Nat) : Int)) hH1 hX0) (lw_V q363 q365 qs6 q62 q366) rfl nd_X1_add rfl (z_rv hC (ci := 0) rfl hxx rfl) rfl (Nat.le_of_ble_eq_true rfl) ⟨Nat.le_of_ble_eq_true rfl, Nat.le_of_ble_eq_true rfl⟩ ⟨zfit (k := 0) (z := 3800) rfl rfl (by omega), zfit (k := 0) (z := 50000) rfl rfl (by omega)⟩ dX1_digest_21) ⟨zad (k := 0) rfl (by omega), zad (k := 0) rfl (by omega)⟩ hS (fun z hz => Or.inl (hz ▸ FC.in hE hh.sep (dom0 0 (by omega)) (by simp))) (fun r H22 locs hp hF hS1 => ?_)
                obtain ⟨_, rfl, rfl, hX9⟩ := hp
                have hP : va_P G.1 zCl [] H22 := va_nil
                have hD : va_D (zA (FC G ρ σ) H0) [] := va_nilD
                have hP : va_P G.1 zCl ([]) H22 := hP
                have hD : va_D (zA (FC G ρ σ) H0) ([]) := hD
                have hH1 : HC G s0 ρ σ H22 := HC.kn hE hH1 hF hX9
                have hS := hS1
                refine lv_pop2_2 hx hb dX1_digest_24 rfl ?_
                refine z_iinc (z := 7) (lv' := [(1, .int (iI 7)), (0, .ref (ρ (0, 0, 0)))]) hx hb dX1_digest_25 hl (k := 0) rfl (by omega) (by decide) rfl (fun ls hl => ?_)
                refine lv_goto (tgt := 9) hx hb dX1_digest_28 (by decide) ?_
                refine lv_iload_n hx hb dX1_digest_9 rfl (lv_at hl 0 rfl) ?_
                refine lv_bipush (v := iI 7) hx hb dX1_digest_10 (by decide) ?_
                refine z_cgt (tgt := 31) hx hb dX1_digest_12 (by decide) (by omega) (fun c23 => ?_) (fun c23 => ?_)
                · omega
                · refine lv_aload_n hx hb dX1_digest_15 rfl (lv_at hl 1 rfl) ?_
                  refine lv_aload_n hx hb dX1_digest_16 rfl (lv_at hl 1 rfl) ?_
                  refine lv_iload_n hx hb dX1_digest_17 rfl (lv_at hl 0 rfl) ?_
                  obtain ⟨sm, hxx⟩ := id hH1.2.2.1.1
                  refine z_go 122 1408 (z_runV (As := [.int (iI 7)]) (rest := [.ref (ρ (0, 0, 0))]) hC hml hl.1 (m_X1_manyNow_7 hE H22 (hO.ext (zS_F hS) hMo) ρ σ hH1) (lw_V q288 q290 qs2 q62 q291) rfl nd_X1_manyNow rfl (z_rv hC (ci := 0) rfl hxx rfl) rfl (Nat.le_of_ble_eq_true rfl) ⟨Nat.le_of_ble_eq_true rfl, Nat.le_of_ble_eq_true rfl⟩ ⟨zfit (k := 1) (z := 3800) rfl rfl (by omega), zfit (k := 4) (z := 50000) rfl rfl (by omega)⟩ dX1_digest_18) ⟨zad (k := 1) rfl (by omega), zad (k := 4) rfl (by omega)⟩ hS (fun _ z => z.elim) (fun r H24 locs hp hF hS1 => ?_)
                  obtain ⟨_, rfl, rfl⟩ := hp
                  have hP := zpk hP hF
                  have hP : va_P G.1 zCl ([]) H24 := hP
                  have hD : va_D (zA (FC G ρ σ) H0) ([]) := hD
                  have hH1 : HC G s0 ρ σ H24 := hH1.ext0 hE hF
                  have hX9 : zAt G (ρ (0, 0, 0)) (zOb 0 [.int (iI (St_p σ)), .ref (ρ (1, 0, 0)), .ref (ρ (3, 0, 0)), .ref (ρ (5, 0, 0)), .int (iI (St_kn σ : Int)), .long (lI ((((((((58236) * 31 + wz (((maV σ 0 : Nat) : Int))) * 31 + wz (((maV σ 1 : Nat) : Int))) * 31 + wz (((maV σ 2 : Nat) : Int))) * 31 + wz (((maV σ 3 : Nat) : Int))) * 31 + wz (((maV σ 4 : Nat) : Int))) * 31 + wz (((maV σ 5 : Nat) : Int))) * 31 + wz (((maV σ 6 : Nat) : Int))))]) H24 := hX9.ext0 hF
                  have hS := hS1
                  have hX0 := hX9
                  obtain ⟨sm, hxx⟩ := id hH1.2.2.1.1
                  refine z_go 122 1408 (z_runV (As := [.int (iI (Int.tdiv (leS σ) 4))]) (rest := []) hC hml hl.1 (m_X1_add hE H24 (hO.ext (zS_F hS) hMo) ρ σ ((((((((58236) * 31 + wz (((maV σ 0 : Nat) : Int))) * 31 + wz (((maV σ 1 : Nat) : Int))) * 31 + wz (((maV σ 2 : Nat) : Int))) * 31 + wz (((maV σ 3 : Nat) : Int))) * 31 + wz (((maV σ 4 : Nat) : Int))) * 31 + wz (((maV σ 5 : Nat) : Int))) * 31 + wz (((maV σ 6 : Nat) : Int))) (Int.tdiv (leS σ) 4) hH1 hX0) (lw_V q363 q365 qs6 q62 q366) rfl nd_X1_add rfl (z_rv hC (ci := 0) rfl hxx rfl) rfl (Nat.le_of_ble_eq_true rfl) ⟨Nat.le_of_ble_eq_true rfl, Nat.le_of_ble_eq_true rfl⟩ ⟨zfit (k := 0) (z := 3800) rfl rfl (by omega), zfit (k := 0) (z := 50000) rfl rfl (by omega)⟩ dX1_digest_21) ⟨zad (k := 0) rfl (by omega), zad (k := 0) rfl (by omega)⟩ hS (fun z hz => Or.inl (hz ▸ FC.in hE hh.sep (dom0 0 (by omega)) (by simp))) (fun r H25 locs hp hF hS1 => ?_)
                  obtain ⟨_, rfl, rfl, hX9⟩ := hp
                  have hP : va_P G.1 zCl [] H25 := va_nil
                  have hD : va_D (zA (FC G ρ σ) H0) [] := va_nilD
                  have hP : va_P G.1 zCl ([]) H25 := hP
                  have hD : va_D (zA (FC G ρ σ) H0) ([]) := hD
                  have hH1 : HC G s0 ρ σ H25 := HC.kn hE hH1 hF hX9
                  have hS := hS1
                  refine lv_pop2_2 hx hb dX1_digest_24 rfl ?_
                  refine z_iinc (z := 8) (lv' := [(1, .int (iI 8)), (0, .ref (ρ (0, 0, 0)))]) hx hb dX1_digest_25 hl (k := 0) rfl (by omega) (by decide) rfl (fun ls hl => ?_)
                  refine lv_goto (tgt := 9) hx hb dX1_digest_28 (by decide) ?_
                  refine lv_iload_n hx hb dX1_digest_9 rfl (lv_at hl 0 rfl) ?_
                  refine lv_bipush (v := iI 7) hx hb dX1_digest_10 (by decide) ?_
                  refine z_cgt (tgt := 31) hx hb dX1_digest_12 (by decide) (by omega) (fun c26 => ?_) (fun c26 => ?_)
                  · have hX9 : zAt G (ρ (0, 0, 0)) (zOb 0 [.int (iI (St_p σ)), .ref (ρ (1, 0, 0)), .ref (ρ (3, 0, 0)), .ref (ρ (5, 0, 0)), .int (iI (St_kn σ : Int)), .long (lI (dgM (myV σ) 58236 8))]) H25 := hX9
                    refine lv_iconst (v := iI 0) hx hb dX1_digest_31 rfl ?_
                    refine lv_istore_n (lv' := [(1, .int (iI 0)), (0, .ref (ρ (0, 0, 0)))]) hx hb dX1_digest_32 rfl hl (by decide) rfl (fun ls hl => ?_)
                    have lp27 : ∀ (dlp27 : Nat) (k : Nat), St_na σ - k = dlp27 → (k ≤ St_na σ) → ∀ (H28 : Heap) (locs : List Loc) (ls : Array Slot), (HC G s0 ρ σ H28) → (zAt G (ρ (0, 0, 0)) (zOb 0 [.int (iI (St_p σ)), .ref (ρ (1, 0, 0)), .ref (ρ (3, 0, 0)), .ref (ρ (5, 0, 0)), .int (iI (St_kn σ : Int)), .long (lI (dgI (dgA σ) (dgM (myV σ) 58236 8) k))]) H28) → va_P G.1 zCl ([]) H28 → va_D (zA (FC G ρ σ) H0) ([]) → va_S (zA (FC G ρ σ) H0) H0 H28 locs → lv_has ls 6 [(1, .int (iI ((k : Nat) : Int))), (0, .ref (ρ (0, 0, 0)))] → W pp l ee rm_m_X1_digest ss mm args below meth cd H28 locs (122 + 60 * k) (1408 + 800 * k) Q (F0 mm 33 ls []) := by
                      intro dlp27
                      induction dlp27 using Nat.strongRecOn with
                      | ind dlp27 ihlp27 =>
                        intro k hdlp27 hk H28 locs ls hH1 hX9 hP hD hS hl
                        have hX9 : zAt G (ρ (0, 0, 0)) (zOb 0 [.int (iI (St_p σ)), .ref (ρ (1, 0, 0)), .ref (ρ (3, 0, 0)), .ref (ρ (5, 0, 0)), .int (iI (St_kn σ : Int)), .long (lI (dgI (dgA σ) (dgM (myV σ) 58236 8) k))]) H28 := hX9
                        obtain ⟨sm, hxx⟩ := id hH1.2.2.1.1
                        refine lv_iload_n hx hb dX1_digest_33 rfl (lv_at hl 0 rfl) ?_
                        refine lv_aload_n hx hb dX1_digest_34 rfl (lv_at hl 1 rfl) ?_
                        refine z_get hC (k := 1) rfl in_X1 hxx (by decide) q152 (fun _ h => h) rfl dX1_digest_35 ?_
                        obtain ⟨mda, hLa⟩ := id hH1.2.2.1.2.1
                        refine z_go (122 + 60 * k) (1408 + 800 * k) (z_runV (As := []) (rest := [.int (iI ((k : Nat) : Int))]) hC hml hl.1 (m_J2_size hE H28 (hO.ext (zS_F hS) hMo) (ρ (1, 0, 0)) (St_na σ) (fun k => ρ (6, k, 0)) (ρ (2, 0, 0)) mda hLa) (lw_V q229 q230 q231 q65 q232) rfl nd_J2_size rfl (z_rv hC (ci := 8) rfl hLa.1 rfl) rfl (Nat.le_of_ble_eq_true rfl) ⟨Nat.le_of_ble_eq_true rfl, Nat.le_of_ble_eq_true rfl⟩ ⟨zfit (k := 0) (z := 3800) rfl rfl (by omega), zfit (k := 0) (z := 50000) rfl rfl (by omega)⟩ dX1_digest_38) ⟨zad (k := 0) rfl (by omega), zad (k := 0) rfl (by omega)⟩ hS (fun _ z => z.elim) (fun r H29 locs hp hF hS1 => ?_)
                        obtain ⟨_, rfl, rfl⟩ := hp
                        have hP := zpk hP hF
                        have hP : va_P G.1 zCl ([]) H29 := hP
                        have hD : va_D (zA (FC G ρ σ) H0) ([]) := hD
                        have hH1 : HC G s0 ρ σ H29 := hH1.ext0 hE hF
                        have hX9 : zAt G (ρ (0, 0, 0)) (zOb 0 [.int (iI (St_p σ)), .ref (ρ (1, 0, 0)), .ref (ρ (3, 0, 0)), .ref (ρ (5, 0, 0)), .int (iI (St_kn σ : Int)), .long (lI (dgI (dgA σ) (dgM (myV σ) 58236 8) k))]) H29 := hX9.ext0 hF
                        have hS := hS1
                        refine z_cge (tgt := 197) hx hb dX1_digest_41 (by decide) (by omega) (fun c30 => ?_) (fun c30 => ?_)
                        · have ek : k = St_na σ := by omega
                          have hX9 : zAt G (ρ (0, 0, 0)) (zOb 0 [.int (iI (St_p σ)), .ref (ρ (1, 0, 0)), .ref (ρ (3, 0, 0)), .ref (ρ (5, 0, 0)), .int (iI (St_kn σ : Int)), .long (lI (dgI (dgA σ) (dgM (myV σ) 58236 8) (St_na σ)))]) H29 := ek ▸ hX9
                          have hl : lv_has ls 6 [(1, .int (iI ((k : Nat) : Int))), (0, .ref (ρ (0, 0, 0)))] := lv_sub hl [0, 1] rfl
                          refine lv_iconst (v := iI 0) hx hb dX1_digest_197 rfl ?_
                          refine lv_istore_n (lv' := [(1, .int (iI 0)), (0, .ref (ρ (0, 0, 0)))]) hx hb dX1_digest_198 rfl hl (by decide) rfl (fun ls hl => ?_)
                          have hne8 : St_ne σ ≤ 10 := hne9
                          have lp31 : ∀ (dlp31 : Nat) (j : Nat), St_ne σ - j = dlp31 → (j ≤ St_ne σ) → ∀ (H32 : Heap) (locs : List Loc) (ls : Array Slot), (HC G s0 ρ σ H32) → (zAt G (ρ (0, 0, 0)) (zOb 0 [.int (iI (St_p σ)), .ref (ρ (1, 0, 0)), .ref (ρ (3, 0, 0)), .ref (ρ (5, 0, 0)), .int (iI (St_kn σ : Int)), .long (lI (dgI (dgE σ) (dgI (dgA σ) (dgM (myV σ) 58236 8) (St_na σ)) j))]) H32) → va_P G.1 zCl ([]) H32 → va_D (zA (FC G ρ σ) H0) ([]) → va_S (zA (FC G ρ σ) H0) H0 H32 locs → lv_has ls 6 [(1, .int (iI ((j : Nat) : Int))), (0, .ref (ρ (0, 0, 0)))] → W pp l ee rm_m_X1_digest ss mm args below meth cd H32 locs (122 + 60 * k + 320 * j) (1408 + 800 * k + 4200 * j) Q (F0 mm 199 ls []) := by
                            intro dlp31
                            induction dlp31 using Nat.strongRecOn with
                            | ind dlp31 ihlp31 =>
                              intro j hdlp31 hj H32 locs ls hH1 hX9 hP hD hS hl
                              have hX9 : zAt G (ρ (0, 0, 0)) (zOb 0 [.int (iI (St_p σ)), .ref (ρ (1, 0, 0)), .ref (ρ (3, 0, 0)), .ref (ρ (5, 0, 0)), .int (iI (St_kn σ : Int)), .long (lI (dgI (dgE σ) (dgI (dgA σ) (dgM (myV σ) 58236 8) (St_na σ)) j))]) H32 := hX9
                              obtain ⟨sm, hxx⟩ := id hH1.2.2.1.1
                              refine lv_iload_n hx hb dX1_digest_199 rfl (lv_at hl 0 rfl) ?_
                              refine lv_aload_n hx hb dX1_digest_200 rfl (lv_at hl 1 rfl) ?_
                              refine z_get hC (k := 2) rfl in_X1 hxx (by decide) q153 (fun _ h => h) rfl dX1_digest_201 ?_
                              obtain ⟨mde, hLe⟩ := id hH1.2.2.1.2.2.1
                              refine z_go (122 + 60 * k + 320 * j) (1408 + 800 * k + 4200 * j) (z_runV (As := []) (rest := [.int (iI ((j : Nat) : Int))]) hC hml hl.1 (m_J2_size hE H32 (hO.ext (zS_F hS) hMo) (ρ (3, 0, 0)) (St_ne σ) (fun j => ρ (13, j, 0)) (ρ (4, 0, 0)) mde hLe) (lw_V q229 q230 q231 q65 q232) rfl nd_J2_size rfl (z_rv hC (ci := 8) rfl hLe.1 rfl) rfl (Nat.le_of_ble_eq_true rfl) ⟨Nat.le_of_ble_eq_true rfl, Nat.le_of_ble_eq_true rfl⟩ ⟨zfit (k := 0) (z := 3800) rfl rfl (by omega), zfit (k := 0) (z := 50000) rfl rfl (by omega)⟩ dX1_digest_204) ⟨zad (k := 0) rfl (by omega), zad (k := 0) rfl (by omega)⟩ hS (fun _ z => z.elim) (fun r H33 locs hp hF hS1 => ?_)
                              obtain ⟨_, rfl, rfl⟩ := hp
                              have hP := zpk hP hF
                              have hP : va_P G.1 zCl ([]) H33 := hP
                              have hD : va_D (zA (FC G ρ σ) H0) ([]) := hD
                              have hH1 : HC G s0 ρ σ H33 := hH1.ext0 hE hF
                              have hX9 : zAt G (ρ (0, 0, 0)) (zOb 0 [.int (iI (St_p σ)), .ref (ρ (1, 0, 0)), .ref (ρ (3, 0, 0)), .ref (ρ (5, 0, 0)), .int (iI (St_kn σ : Int)), .long (lI (dgI (dgE σ) (dgI (dgA σ) (dgM (myV σ) 58236 8) (St_na σ)) j))]) H33 := hX9.ext0 hF
                              have hS := hS1
                              refine z_cge (tgt := 309) hx hb dX1_digest_207 (by decide) (by omega) (fun c34 => ?_) (fun c34 => ?_)
                              · have ej : j = St_ne σ := by omega
                                refine lv_aload_n hx hb dX1_digest_309 rfl (lv_at hl 1 rfl) ?_
                                refine z_get hC (k := 5) rfl in_X1 hX9 (by decide) q156 (fun _ h => h) rfl dX1_digest_310 ?_
                                exact z_lret hC hrt hlk hQ hS ⟨zle (z := 3800) rfl (by omega), zle (z := 50000) rfl (by omega)⟩ ⟨_, rfl, by rw [ej]; rfl, hH1⟩ dX1_digest_313
                              · obtain ⟨sm, hxx⟩ := id hH1.2.2.1.1
                                refine lv_aload_n hx hb dX1_digest_210 rfl (lv_at hl 1 rfl) ?_
                                refine z_get hC (k := 2) rfl in_X1 hxx (by decide) q153 (fun _ h => h) rfl dX1_digest_211 ?_
                                refine lv_iload_n hx hb dX1_digest_214 rfl (lv_at hl 0 rfl) ?_
                                obtain ⟨mde, hLe⟩ := id hH1.2.2.1.2.2.1
                                refine z_go (122 + 60 * k + 320 * j) (1408 + 800 * k + 4200 * j) (z_runV (As := [.int (iI ((j : Nat) : Int))]) (rest := []) hC hml hl.1 (m_J2_get hE H33 (hO.ext (zS_F hS) hMo) (ρ (3, 0, 0)) (St_ne σ) (fun j => ρ (13, j, 0)) (ρ (4, 0, 0)) mde j hLe (by omega)) (lw_V q372 q373 q374 q65 q375) rfl nd_J2_get rfl (z_rv hC (ci := 8) rfl hLe.1 rfl) rfl (Nat.le_of_ble_eq_true rfl) ⟨Nat.le_of_ble_eq_true rfl, Nat.le_of_ble_eq_true rfl⟩ ⟨zfit (k := 0) (z := 3800) rfl rfl (by omega), zfit (k := 0) (z := 50000) rfl rfl (by omega)⟩ dX1_digest_215) ⟨zad (k := 0) rfl (by omega), zad (k := 0) rfl (by omega)⟩ hS (fun _ z => z.elim) (fun r H35 locs hp hF hS1 => ?_)
                                obtain ⟨_, rfl, rfl⟩ := hp
                                have hP := zpk hP hF
                                have hP : va_P G.1 zCl ([]) H35 := hP
                                have hD : va_D (zA (FC G ρ σ) H0) ([]) := hD
                                have hH1 : HC G s0 ρ σ H35 := hH1.ext0 hE hF
                                have hX9 : zAt G (ρ (0, 0, 0)) (zOb 0 [.int (iI (St_p σ)), .ref (ρ (1, 0, 0)), .ref (ρ (3, 0, 0)), .ref (ρ (5, 0, 0)), .int (iI (St_kn σ : Int)), .long (lI (dgI (dgE σ) (dgI (dgA σ) (dgM (myV σ) 58236 8) (St_na σ)) j))]) H35 := hX9.ext0 hF
                                have hS := hS1
                                have hvj := hH1.row (j := j) (by omega)
                                have hEj := hH1.el (j := j) (by omega)
                                have heaj := hH1.ea (j := j) (by omega)
                                obtain ⟨hn16j, -⟩ := (hH1.ag heaj).n
                                refine z_cast hC (ci := 6) rfl hEj.1 rfl q220 dX1_digest_218 ?_
                                refine z_getn hC (k := 1) rfl in_X7 hEj.1 (by decide) q325 (fun _ h => h) rfl dX1_digest_221 ?_
                                refine lv_astore_n (lv' := [(2, .ref (ρ (14, j, 0))), (1, .int (iI ((j : Nat) : Int))), (0, .ref (ρ (0, 0, 0)))]) hx hb dX1_digest_224 rfl hl (by decide) rfl (fun ls hl => ?_)
                                refine lv_aload_n hx hb dX1_digest_225 rfl (lv_at hl 0 rfl) ?_
                                refine z_alen hC 0 hEj.2 rfl (y := ((St_n σ (St_ea σ j) : Nat) : Int)) rfl dX1_digest_226 ?_
                                refine lv_istore_n (lv' := [(3, .int (iI ((St_n σ (St_ea σ j) : Nat) : Int))), (2, .ref (ρ (14, j, 0))), (1, .int (iI ((j : Nat) : Int))), (0, .ref (ρ (0, 0, 0)))]) hx hb dX1_digest_227 rfl hl (by decide) rfl (fun ls hl => ?_)
                                refine lv_iconst (v := iI 0) hx hb dX1_digest_228 rfl ?_
                                refine lv_istore (lv' := [(4, .int (iI 0)), (3, .int (iI ((St_n σ (St_ea σ j) : Nat) : Int))), (2, .ref (ρ (14, j, 0))), (1, .int (iI ((j : Nat) : Int))), (0, .ref (ρ (0, 0, 0)))]) hx hb dX1_digest_229 hl (by decide) rfl (fun ls hl => ?_)
                                have lp36 : ∀ (dlp36 : Nat) (u : Nat), St_n σ (St_ea σ j) - u = dlp36 → (u ≤ St_n σ (St_ea σ j)) → ∀ (H37 : Heap) (locs : List Loc) (ls : Array Slot), (HC G s0 ρ σ H37) → (zAt G (ρ (0, 0, 0)) (zOb 0 [.int (iI (St_p σ)), .ref (ρ (1, 0, 0)), .ref (ρ (3, 0, 0)), .ref (ρ (5, 0, 0)), .int (iI (St_kn σ : Int)), .long (lI (dgM (St_ev σ j) (dgI (dgE σ) (dgI (dgA σ) (dgM (myV σ) 58236 8) (St_na σ)) j) u))]) H37) → va_P G.1 zCl ([]) H37 → va_D (zA (FC G ρ σ) H0) ([]) → va_S (zA (FC G ρ σ) H0) H0 H37 locs → lv_has ls 6 [(4, .int (iI ((u : Nat) : Int))), (3, .int (iI ((St_n σ (St_ea σ j) : Nat) : Int))), (2, .ref (ρ (14, j, 0))), (1, .int (iI ((j : Nat) : Int))), (0, .ref (ρ (0, 0, 0)))] → W pp l ee rm_m_X1_digest ss mm args below meth cd H37 locs (122 + 60 * k + 320 * j) (1408 + 800 * k + 4200 * j) Q (F0 mm 231 ls []) := by
                                  intro dlp36
                                  induction dlp36 using Nat.strongRecOn with
                                  | ind dlp36 ihlp36 =>
                                    intro u hdlp36 hu H37 locs ls hH1 hX9 hP hD hS hl
                                    have hX9 : zAt G (ρ (0, 0, 0)) (zOb 0 [.int (iI (St_p σ)), .ref (ρ (1, 0, 0)), .ref (ρ (3, 0, 0)), .ref (ρ (5, 0, 0)), .int (iI (St_kn σ : Int)), .long (lI (dgM (St_ev σ j) (dgI (dgE σ) (dgI (dgA σ) (dgM (myV σ) 58236 8) (St_na σ)) j) u))]) H37 := hX9
                                    have hvj := hH1.row (j := j) (by omega)
                                    have hEj := hH1.el (j := j) (by omega)
                                    have heaj := hH1.ea (j := j) (by omega)
                                    obtain ⟨hn16j, -⟩ := (hH1.ag heaj).n
                                    refine lv_iload hx hb dX1_digest_231 (lv_at hl 0 rfl) ?_
                                    refine lv_iload_n hx hb dX1_digest_233 rfl (lv_at hl 1 rfl) ?_
                                    refine z_cge (tgt := 256) hx hb dX1_digest_234 (by decide) (by omega) (fun c38 => ?_) (fun c38 => ?_)
                                    · have eu : u = St_n σ (St_ea σ j) := by omega
                                      have hX9 : zAt G (ρ (0, 0, 0)) (zOb 0 [.int (iI (St_p σ)), .ref (ρ (1, 0, 0)), .ref (ρ (3, 0, 0)), .ref (ρ (5, 0, 0)), .int (iI (St_kn σ : Int)), .long (lI (dgM (St_ev σ j) (dgI (dgE σ) (dgI (dgA σ) (dgM (myV σ) 58236 8) (St_na σ)) j) (St_n σ (St_ea σ j))))]) H37 := by rw [eu] at hX9; exact hX9
                                      have hl : lv_has ls 6 [(1, .int (iI ((j : Nat) : Int))), (0, .ref (ρ (0, 0, 0)))] := lv_sub hl [3, 4] rfl
                                      refine lv_iconst (v := iI 0) hx hb dX1_digest_256 rfl ?_
                                      refine lv_istore_n (lv' := [(2, .int (iI 0)), (1, .int (iI ((j : Nat) : Int))), (0, .ref (ρ (0, 0, 0)))]) hx hb dX1_digest_257 rfl hl (by decide) rfl (fun ls hl => ?_)
                                      refine lv_iload_n hx hb dX1_digest_258 rfl (lv_at hl 0 rfl) ?_
                                      refine lv_bipush (v := iI 9) hx hb dX1_digest_259 (by decide) ?_
                                      refine z_cgt (tgt := 281) hx hb dX1_digest_261 (by decide) (by omega) (fun c39 => ?_) (fun c39 => ?_)
                                      · omega
                                      · refine lv_aload_n hx hb dX1_digest_264 rfl (lv_at hl 2 rfl) ?_
                                        refine lv_aload_n hx hb dX1_digest_265 rfl (lv_at hl 2 rfl) ?_
                                        refine lv_iload_n hx hb dX1_digest_266 rfl (lv_at hl 1 rfl) ?_
                                        refine lv_iload_n hx hb dX1_digest_267 rfl (lv_at hl 0 rfl) ?_
                                        obtain ⟨sm, hxx⟩ := id hH1.2.2.1.1
                                        refine z_go (122 + 60 * k + 320 * j) (1408 + 800 * k + 4200 * j) (z_runV (As := [.int (iI ((j : Nat) : Int)), .int (iI 0)]) (rest := [.ref (ρ (0, 0, 0))]) hC hml hl.1 (m_X1_ofElementNow_0 hE H37 (hO.ext (zS_F hS) hMo) ρ σ j hH1 (by omega)) (lw_V q451 q453 qs14 q62 q454) rfl nd_X1_ofElementNow rfl (z_rv hC (ci := 0) rfl hxx rfl) rfl (Nat.le_of_ble_eq_true rfl) ⟨Nat.le_of_ble_eq_true rfl, Nat.le_of_ble_eq_true rfl⟩ ⟨zfit (k := 0) (z := 3800) rfl rfl (by omega), zfit (k := 0) (z := 50000) rfl rfl (by omega)⟩ dX1_digest_268) ⟨zad (k := 0) rfl (by omega), zad (k := 0) rfl (by omega)⟩ hS (fun _ z => z.elim) (fun r H40 locs hp hF hS1 => ?_)
                                        obtain ⟨_, rfl, rfl⟩ := hp
                                        have hP := zpk hP hF
                                        have hP : va_P G.1 zCl ([]) H40 := hP
                                        have hD : va_D (zA (FC G ρ σ) H0) ([]) := hD
                                        have hH1 : HC G s0 ρ σ H40 := hH1.ext0 hE hF
                                        have hX9 : zAt G (ρ (0, 0, 0)) (zOb 0 [.int (iI (St_p σ)), .ref (ρ (1, 0, 0)), .ref (ρ (3, 0, 0)), .ref (ρ (5, 0, 0)), .int (iI (St_kn σ : Int)), .long (lI (dgM (St_ev σ j) (dgI (dgE σ) (dgI (dgA σ) (dgM (myV σ) 58236 8) (St_na σ)) j) (St_n σ (St_ea σ j))))]) H40 := hX9.ext0 hF
                                        have hS := hS1
                                        have hX0 := hX9
                                        obtain ⟨sm, hxx⟩ := id hH1.2.2.1.1
                                        refine z_go (122 + 60 * k + 320 * j) (1408 + 800 * k + 4200 * j) (z_runV (As := [.int (iI (oeV σ j 0))]) (rest := []) hC hml hl.1 (m_X1_add hE H40 (hO.ext (zS_F hS) hMo) ρ σ (dgM (St_ev σ j) (dgI (dgE σ) (dgI (dgA σ) (dgM (myV σ) 58236 8) (St_na σ)) j) (St_n σ (St_ea σ j))) (oeV σ j 0) hH1 hX0) (lw_V q363 q365 qs6 q62 q366) rfl nd_X1_add rfl (z_rv hC (ci := 0) rfl hxx rfl) rfl (Nat.le_of_ble_eq_true rfl) ⟨Nat.le_of_ble_eq_true rfl, Nat.le_of_ble_eq_true rfl⟩ ⟨zfit (k := 0) (z := 3800) rfl rfl (by omega), zfit (k := 0) (z := 50000) rfl rfl (by omega)⟩ dX1_digest_271) ⟨zad (k := 0) rfl (by omega), zad (k := 0) rfl (by omega)⟩ hS (fun z hz => Or.inl (hz ▸ FC.in hE hh.sep (dom0 0 (by omega)) (by simp))) (fun r H41 locs hp hF hS1 => ?_)
                                        obtain ⟨_, rfl, rfl, hX9⟩ := hp
                                        have hP : va_P G.1 zCl [] H41 := va_nil
                                        have hD : va_D (zA (FC G ρ σ) H0) [] := va_nilD
                                        have hP : va_P G.1 zCl ([]) H41 := hP
                                        have hD : va_D (zA (FC G ρ σ) H0) ([]) := hD
                                        have hH1 : HC G s0 ρ σ H41 := HC.kn hE hH1 hF hX9
                                        have hS := hS1
                                        refine lv_pop2_2 hx hb dX1_digest_274 rfl ?_
                                        refine z_iinc (z := 1) (lv' := [(2, .int (iI 1)), (1, .int (iI ((j : Nat) : Int))), (0, .ref (ρ (0, 0, 0)))]) hx hb dX1_digest_275 hl (k := 0) rfl (by omega) (by decide) rfl (fun ls hl => ?_)
                                        refine lv_goto (tgt := 258) hx hb dX1_digest_278 (by decide) ?_
                                        refine lv_iload_n hx hb dX1_digest_258 rfl (lv_at hl 0 rfl) ?_
                                        refine lv_bipush (v := iI 9) hx hb dX1_digest_259 (by decide) ?_
                                        refine z_cgt (tgt := 281) hx hb dX1_digest_261 (by decide) (by omega) (fun c42 => ?_) (fun c42 => ?_)
                                        · omega
                                        · refine lv_aload_n hx hb dX1_digest_264 rfl (lv_at hl 2 rfl) ?_
                                          refine lv_aload_n hx hb dX1_digest_265 rfl (lv_at hl 2 rfl) ?_
                                          refine lv_iload_n hx hb dX1_digest_266 rfl (lv_at hl 1 rfl) ?_
                                          refine lv_iload_n hx hb dX1_digest_267 rfl (lv_at hl 0 rfl) ?_
                                          obtain ⟨sm, hxx⟩ := id hH1.2.2.1.1
                                          refine z_go (122 + 60 * k + 320 * j) (1408 + 800 * k + 4200 * j) (z_runV (As := [.int (iI ((j : Nat) : Int)), .int (iI 1)]) (rest := [.ref (ρ (0, 0, 0))]) hC hml hl.1 (m_X1_ofElementNow_1 hE H41 (hO.ext (zS_F hS) hMo) ρ σ j hH1 (by omega)) (lw_V q451 q453 qs14 q62 q454) rfl nd_X1_ofElementNow rfl (z_rv hC (ci := 0) rfl hxx rfl) rfl (Nat.le_of_ble_eq_true rfl) ⟨Nat.le_of_ble_eq_true rfl, Nat.le_of_ble_eq_true rfl⟩ ⟨zfit (k := 0) (z := 3800) rfl rfl (by omega), zfit (k := 0) (z := 50000) rfl rfl (by omega)⟩ dX1_digest_268) ⟨zad (k := 0) rfl (by omega), zad (k := 0) rfl (by omega)⟩ hS (fun _ z => z.elim) (fun r H43 locs hp hF hS1 => ?_)
                                          obtain ⟨_, rfl, rfl⟩ := hp
                                          have hP := zpk hP hF
                                          have hP : va_P G.1 zCl ([]) H43 := hP
                                          have hD : va_D (zA (FC G ρ σ) H0) ([]) := hD
                                          have hH1 : HC G s0 ρ σ H43 := hH1.ext0 hE hF
                                          have hX9 : zAt G (ρ (0, 0, 0)) (zOb 0 [.int (iI (St_p σ)), .ref (ρ (1, 0, 0)), .ref (ρ (3, 0, 0)), .ref (ρ (5, 0, 0)), .int (iI (St_kn σ : Int)), .long (lI ((dgM (St_ev σ j) (dgI (dgE σ) (dgI (dgA σ) (dgM (myV σ) 58236 8) (St_na σ)) j) (St_n σ (St_ea σ j))) * 31 + wz (oeV σ j 0)))]) H43 := hX9.ext0 hF
                                          have hS := hS1
                                          have hX0 := hX9
                                          obtain ⟨sm, hxx⟩ := id hH1.2.2.1.1
                                          refine z_go (122 + 60 * k + 320 * j) (1408 + 800 * k + 4200 * j) (z_runV (As := [.int (iI (oeV σ j 1))]) (rest := []) hC hml hl.1 (m_X1_add hE H43 (hO.ext (zS_F hS) hMo) ρ σ ((dgM (St_ev σ j) (dgI (dgE σ) (dgI (dgA σ) (dgM (myV σ) 58236 8) (St_na σ)) j) (St_n σ (St_ea σ j))) * 31 + wz (oeV σ j 0)) (oeV σ j 1) hH1 hX0) (lw_V q363 q365 qs6 q62 q366) rfl nd_X1_add rfl (z_rv hC (ci := 0) rfl hxx rfl) rfl (Nat.le_of_ble_eq_true rfl) ⟨Nat.le_of_ble_eq_true rfl, Nat.le_of_ble_eq_true rfl⟩ ⟨zfit (k := 0) (z := 3800) rfl rfl (by omega), zfit (k := 0) (z := 50000) rfl rfl (by omega)⟩ dX1_digest_271) ⟨zad (k := 0) rfl (by omega), zad (k := 0) rfl (by omega)⟩ hS (fun z hz => Or.inl (hz ▸ FC.in hE hh.sep (dom0 0 (by omega)) (by simp))) (fun r H44 locs hp hF hS1 => ?_)
                                          obtain ⟨_, rfl, rfl, hX9⟩ := hp
                                          have hP : va_P G.1 zCl [] H44 := va_nil
                                          have hD : va_D (zA (FC G ρ σ) H0) [] := va_nilD
                                          have hP : va_P G.1 zCl ([]) H44 := hP
                                          have hD : va_D (zA (FC G ρ σ) H0) ([]) := hD
                                          have hH1 : HC G s0 ρ σ H44 := HC.kn hE hH1 hF hX9
                                          have hS := hS1
                                          refine lv_pop2_2 hx hb dX1_digest_274 rfl ?_
                                          refine z_iinc (z := 2) (lv' := [(2, .int (iI 2)), (1, .int (iI ((j : Nat) : Int))), (0, .ref (ρ (0, 0, 0)))]) hx hb dX1_digest_275 hl (k := 0) rfl (by omega) (by decide) rfl (fun ls hl => ?_)
                                          refine lv_goto (tgt := 258) hx hb dX1_digest_278 (by decide) ?_
                                          refine lv_iload_n hx hb dX1_digest_258 rfl (lv_at hl 0 rfl) ?_
                                          refine lv_bipush (v := iI 9) hx hb dX1_digest_259 (by decide) ?_
                                          refine z_cgt (tgt := 281) hx hb dX1_digest_261 (by decide) (by omega) (fun c45 => ?_) (fun c45 => ?_)
                                          · omega
                                          · refine lv_aload_n hx hb dX1_digest_264 rfl (lv_at hl 2 rfl) ?_
                                            refine lv_aload_n hx hb dX1_digest_265 rfl (lv_at hl 2 rfl) ?_
                                            refine lv_iload_n hx hb dX1_digest_266 rfl (lv_at hl 1 rfl) ?_
                                            refine lv_iload_n hx hb dX1_digest_267 rfl (lv_at hl 0 rfl) ?_
                                            obtain ⟨sm, hxx⟩ := id hH1.2.2.1.1
                                            refine z_go ((122 + 60 * k + 320 * j) + 4) ((1408 + 800 * k + 4200 * j) + 38) (z_runV (As := [.int (iI ((j : Nat) : Int)), .int (iI 2)]) (rest := [.ref (ρ (0, 0, 0))]) hC hml hl.1 (m_X1_ofElementNow_2 hE H44 (hO.ext (zS_F hS) hMo) ρ σ j hH1 (by omega)) (lw_V q451 q453 qs14 q62 q454) rfl nd_X1_ofElementNow rfl (z_rv hC (ci := 0) rfl hxx rfl) rfl (Nat.le_of_ble_eq_true rfl) ⟨Nat.le_of_ble_eq_true rfl, Nat.le_of_ble_eq_true rfl⟩ ⟨zfit (k := 4) (z := 3800) rfl rfl (by omega), zfit (k := 38) (z := 50000) rfl rfl (by omega)⟩ dX1_digest_268) ⟨zad (k := 4) rfl (by omega), zad (k := 38) rfl (by omega)⟩ hS (fun _ z => z.elim) (fun r H46 locs hp hF hS1 => ?_)
                                            obtain ⟨_, rfl, rfl⟩ := hp
                                            have hP := zpk hP hF
                                            have hP : va_P G.1 zCl ([]) H46 := hP
                                            have hD : va_D (zA (FC G ρ σ) H0) ([]) := hD
                                            have hH1 : HC G s0 ρ σ H46 := hH1.ext0 hE hF
                                            have hX9 : zAt G (ρ (0, 0, 0)) (zOb 0 [.int (iI (St_p σ)), .ref (ρ (1, 0, 0)), .ref (ρ (3, 0, 0)), .ref (ρ (5, 0, 0)), .int (iI (St_kn σ : Int)), .long (lI (((dgM (St_ev σ j) (dgI (dgE σ) (dgI (dgA σ) (dgM (myV σ) 58236 8) (St_na σ)) j) (St_n σ (St_ea σ j))) * 31 + wz (oeV σ j 0)) * 31 + wz (oeV σ j 1)))]) H46 := hX9.ext0 hF
                                            have hS := hS1
                                            have hX0 := hX9
                                            obtain ⟨sm, hxx⟩ := id hH1.2.2.1.1
                                            refine z_go ((122 + 60 * k + 320 * j) + 4) ((1408 + 800 * k + 4200 * j) + 38) (z_runV (As := [.int (iI (oeV σ j 2))]) (rest := []) hC hml hl.1 (m_X1_add hE H46 (hO.ext (zS_F hS) hMo) ρ σ (((dgM (St_ev σ j) (dgI (dgE σ) (dgI (dgA σ) (dgM (myV σ) 58236 8) (St_na σ)) j) (St_n σ (St_ea σ j))) * 31 + wz (oeV σ j 0)) * 31 + wz (oeV σ j 1)) (oeV σ j 2) hH1 hX0) (lw_V q363 q365 qs6 q62 q366) rfl nd_X1_add rfl (z_rv hC (ci := 0) rfl hxx rfl) rfl (Nat.le_of_ble_eq_true rfl) ⟨Nat.le_of_ble_eq_true rfl, Nat.le_of_ble_eq_true rfl⟩ ⟨zfit (k := 0) (z := 3800) rfl rfl (by omega), zfit (k := 0) (z := 50000) rfl rfl (by omega)⟩ dX1_digest_271) ⟨zad (k := 0) rfl (by omega), zad (k := 0) rfl (by omega)⟩ hS (fun z hz => Or.inl (hz ▸ FC.in hE hh.sep (dom0 0 (by omega)) (by simp))) (fun r H47 locs hp hF hS1 => ?_)
                                            obtain ⟨_, rfl, rfl, hX9⟩ := hp
                                            have hP : va_P G.1 zCl [] H47 := va_nil
                                            have hD : va_D (zA (FC G ρ σ) H0) [] := va_nilD
                                            have hP : va_P G.1 zCl ([]) H47 := hP
                                            have hD : va_D (zA (FC G ρ σ) H0) ([]) := hD
                                            have hH1 : HC G s0 ρ σ H47 := HC.kn hE hH1 hF hX9
                                            have hS := hS1
                                            refine lv_pop2_2 hx hb dX1_digest_274 rfl ?_
                                            refine z_iinc (z := 3) (lv' := [(2, .int (iI 3)), (1, .int (iI ((j : Nat) : Int))), (0, .ref (ρ (0, 0, 0)))]) hx hb dX1_digest_275 hl (k := 0) rfl (by omega) (by decide) rfl (fun ls hl => ?_)
                                            refine lv_goto (tgt := 258) hx hb dX1_digest_278 (by decide) ?_
                                            refine lv_iload_n hx hb dX1_digest_258 rfl (lv_at hl 0 rfl) ?_
                                            refine lv_bipush (v := iI 9) hx hb dX1_digest_259 (by decide) ?_
                                            refine z_cgt (tgt := 281) hx hb dX1_digest_261 (by decide) (by omega) (fun c48 => ?_) (fun c48 => ?_)
                                            · omega
                                            · refine lv_aload_n hx hb dX1_digest_264 rfl (lv_at hl 2 rfl) ?_
                                              refine lv_aload_n hx hb dX1_digest_265 rfl (lv_at hl 2 rfl) ?_
                                              refine lv_iload_n hx hb dX1_digest_266 rfl (lv_at hl 1 rfl) ?_
                                              refine lv_iload_n hx hb dX1_digest_267 rfl (lv_at hl 0 rfl) ?_
                                              obtain ⟨sm, hxx⟩ := id hH1.2.2.1.1
                                              refine z_go ((122 + 60 * k + 320 * j) + 4) ((1408 + 800 * k + 4200 * j) + 38) (z_runV (As := [.int (iI ((j : Nat) : Int)), .int (iI 3)]) (rest := [.ref (ρ (0, 0, 0))]) hC hml hl.1 (m_X1_ofElementNow_3 hE H47 (hO.ext (zS_F hS) hMo) ρ σ j hH1 (by omega)) (lw_V q451 q453 qs14 q62 q454) rfl nd_X1_ofElementNow rfl (z_rv hC (ci := 0) rfl hxx rfl) rfl (Nat.le_of_ble_eq_true rfl) ⟨Nat.le_of_ble_eq_true rfl, Nat.le_of_ble_eq_true rfl⟩ ⟨zfit (k := 0) (z := 3800) rfl rfl (by omega), zfit (k := 0) (z := 50000) rfl rfl (by omega)⟩ dX1_digest_268) ⟨zad (k := 0) rfl (by omega), zad (k := 0) rfl (by omega)⟩ hS (fun _ z => z.elim) (fun r H49 locs hp hF hS1 => ?_)
                                              obtain ⟨_, rfl, rfl⟩ := hp
                                              have hP := zpk hP hF
                                              have hP : va_P G.1 zCl ([]) H49 := hP
                                              have hD : va_D (zA (FC G ρ σ) H0) ([]) := hD
                                              have hH1 : HC G s0 ρ σ H49 := hH1.ext0 hE hF
                                              have hX9 : zAt G (ρ (0, 0, 0)) (zOb 0 [.int (iI (St_p σ)), .ref (ρ (1, 0, 0)), .ref (ρ (3, 0, 0)), .ref (ρ (5, 0, 0)), .int (iI (St_kn σ : Int)), .long (lI ((((dgM (St_ev σ j) (dgI (dgE σ) (dgI (dgA σ) (dgM (myV σ) 58236 8) (St_na σ)) j) (St_n σ (St_ea σ j))) * 31 + wz (oeV σ j 0)) * 31 + wz (oeV σ j 1)) * 31 + wz (oeV σ j 2)))]) H49 := hX9.ext0 hF
                                              have hS := hS1
                                              have hX0 := hX9
                                              obtain ⟨sm, hxx⟩ := id hH1.2.2.1.1
                                              refine z_go ((122 + 60 * k + 320 * j) + 4) ((1408 + 800 * k + 4200 * j) + 38) (z_runV (As := [.int (iI (oeV σ j 3))]) (rest := []) hC hml hl.1 (m_X1_add hE H49 (hO.ext (zS_F hS) hMo) ρ σ ((((dgM (St_ev σ j) (dgI (dgE σ) (dgI (dgA σ) (dgM (myV σ) 58236 8) (St_na σ)) j) (St_n σ (St_ea σ j))) * 31 + wz (oeV σ j 0)) * 31 + wz (oeV σ j 1)) * 31 + wz (oeV σ j 2)) (oeV σ j 3) hH1 hX0) (lw_V q363 q365 qs6 q62 q366) rfl nd_X1_add rfl (z_rv hC (ci := 0) rfl hxx rfl) rfl (Nat.le_of_ble_eq_true rfl) ⟨Nat.le_of_ble_eq_true rfl, Nat.le_of_ble_eq_true rfl⟩ ⟨zfit (k := 0) (z := 3800) rfl rfl (by omega), zfit (k := 0) (z := 50000) rfl rfl (by omega)⟩ dX1_digest_271) ⟨zad (k := 0) rfl (by omega), zad (k := 0) rfl (by omega)⟩ hS (fun z hz => Or.inl (hz ▸ FC.in hE hh.sep (dom0 0 (by omega)) (by simp))) (fun r H50 locs hp hF hS1 => ?_)
                                              obtain ⟨_, rfl, rfl, hX9⟩ := hp
                                              have hP : va_P G.1 zCl [] H50 := va_nil
                                              have hD : va_D (zA (FC G ρ σ) H0) [] := va_nilD
                                              have hP : va_P G.1 zCl ([]) H50 := hP
                                              have hD : va_D (zA (FC G ρ σ) H0) ([]) := hD
                                              have hH1 : HC G s0 ρ σ H50 := HC.kn hE hH1 hF hX9
                                              have hS := hS1
                                              refine lv_pop2_2 hx hb dX1_digest_274 rfl ?_
                                              refine z_iinc (z := 4) (lv' := [(2, .int (iI 4)), (1, .int (iI ((j : Nat) : Int))), (0, .ref (ρ (0, 0, 0)))]) hx hb dX1_digest_275 hl (k := 0) rfl (by omega) (by decide) rfl (fun ls hl => ?_)
                                              refine lv_goto (tgt := 258) hx hb dX1_digest_278 (by decide) ?_
                                              refine lv_iload_n hx hb dX1_digest_258 rfl (lv_at hl 0 rfl) ?_
                                              refine lv_bipush (v := iI 9) hx hb dX1_digest_259 (by decide) ?_
                                              refine z_cgt (tgt := 281) hx hb dX1_digest_261 (by decide) (by omega) (fun c51 => ?_) (fun c51 => ?_)
                                              · omega
                                              · refine lv_aload_n hx hb dX1_digest_264 rfl (lv_at hl 2 rfl) ?_
                                                refine lv_aload_n hx hb dX1_digest_265 rfl (lv_at hl 2 rfl) ?_
                                                refine lv_iload_n hx hb dX1_digest_266 rfl (lv_at hl 1 rfl) ?_
                                                refine lv_iload_n hx hb dX1_digest_267 rfl (lv_at hl 0 rfl) ?_
                                                obtain ⟨sm, hxx⟩ := id hH1.2.2.1.1
                                                refine z_go (((122 + 60 * k + 320 * j) + 4) + 124) (((1408 + 800 * k + 4200 * j) + 38) + 1220) (z_runV (As := [.int (iI ((j : Nat) : Int)), .int (iI 4)]) (rest := [.ref (ρ (0, 0, 0))]) hC hml hl.1 (m_X1_ofElementNow_4 hE H50 (hO.ext (zS_F hS) hMo) ρ σ j hH1 (by omega)) (lw_V q451 q453 qs14 q62 q454) rfl nd_X1_ofElementNow rfl (z_rv hC (ci := 0) rfl hxx rfl) rfl (Nat.le_of_ble_eq_true rfl) ⟨Nat.le_of_ble_eq_true rfl, Nat.le_of_ble_eq_true rfl⟩ ⟨zfit (k := 124) (z := 3800) rfl rfl (by omega), zfit (k := 1220) (z := 50000) rfl rfl (by omega)⟩ dX1_digest_268) ⟨zad (k := 124) rfl (by omega), zad (k := 1220) rfl (by omega)⟩ hS (fun _ z => z.elim) (fun r H52 locs hp hF hS1 => ?_)
                                                obtain ⟨_, rfl, rfl⟩ := hp
                                                have hP := zpk hP hF
                                                have hP : va_P G.1 zCl ([]) H52 := hP
                                                have hD : va_D (zA (FC G ρ σ) H0) ([]) := hD
                                                have hH1 : HC G s0 ρ σ H52 := hH1.ext0 hE hF
                                                have hX9 : zAt G (ρ (0, 0, 0)) (zOb 0 [.int (iI (St_p σ)), .ref (ρ (1, 0, 0)), .ref (ρ (3, 0, 0)), .ref (ρ (5, 0, 0)), .int (iI (St_kn σ : Int)), .long (lI (((((dgM (St_ev σ j) (dgI (dgE σ) (dgI (dgA σ) (dgM (myV σ) 58236 8) (St_na σ)) j) (St_n σ (St_ea σ j))) * 31 + wz (oeV σ j 0)) * 31 + wz (oeV σ j 1)) * 31 + wz (oeV σ j 2)) * 31 + wz (oeV σ j 3)))]) H52 := hX9.ext0 hF
                                                have hS := hS1
                                                have hX0 := hX9
                                                obtain ⟨sm, hxx⟩ := id hH1.2.2.1.1
                                                refine z_go (((122 + 60 * k + 320 * j) + 4) + 124) (((1408 + 800 * k + 4200 * j) + 38) + 1220) (z_runV (As := [.int (iI (oeV σ j 4))]) (rest := []) hC hml hl.1 (m_X1_add hE H52 (hO.ext (zS_F hS) hMo) ρ σ (((((dgM (St_ev σ j) (dgI (dgE σ) (dgI (dgA σ) (dgM (myV σ) 58236 8) (St_na σ)) j) (St_n σ (St_ea σ j))) * 31 + wz (oeV σ j 0)) * 31 + wz (oeV σ j 1)) * 31 + wz (oeV σ j 2)) * 31 + wz (oeV σ j 3)) (oeV σ j 4) hH1 hX0) (lw_V q363 q365 qs6 q62 q366) rfl nd_X1_add rfl (z_rv hC (ci := 0) rfl hxx rfl) rfl (Nat.le_of_ble_eq_true rfl) ⟨Nat.le_of_ble_eq_true rfl, Nat.le_of_ble_eq_true rfl⟩ ⟨zfit (k := 0) (z := 3800) rfl rfl (by omega), zfit (k := 0) (z := 50000) rfl rfl (by omega)⟩ dX1_digest_271) ⟨zad (k := 0) rfl (by omega), zad (k := 0) rfl (by omega)⟩ hS (fun z hz => Or.inl (hz ▸ FC.in hE hh.sep (dom0 0 (by omega)) (by simp))) (fun r H53 locs hp hF hS1 => ?_)
                                                obtain ⟨_, rfl, rfl, hX9⟩ := hp
                                                have hP : va_P G.1 zCl [] H53 := va_nil
                                                have hD : va_D (zA (FC G ρ σ) H0) [] := va_nilD
                                                have hP : va_P G.1 zCl ([]) H53 := hP
                                                have hD : va_D (zA (FC G ρ σ) H0) ([]) := hD
                                                have hH1 : HC G s0 ρ σ H53 := HC.kn hE hH1 hF hX9
                                                have hS := hS1
                                                refine lv_pop2_2 hx hb dX1_digest_274 rfl ?_
                                                refine z_iinc (z := 5) (lv' := [(2, .int (iI 5)), (1, .int (iI ((j : Nat) : Int))), (0, .ref (ρ (0, 0, 0)))]) hx hb dX1_digest_275 hl (k := 0) rfl (by omega) (by decide) rfl (fun ls hl => ?_)
                                                refine lv_goto (tgt := 258) hx hb dX1_digest_278 (by decide) ?_
                                                refine lv_iload_n hx hb dX1_digest_258 rfl (lv_at hl 0 rfl) ?_
                                                refine lv_bipush (v := iI 9) hx hb dX1_digest_259 (by decide) ?_
                                                refine z_cgt (tgt := 281) hx hb dX1_digest_261 (by decide) (by omega) (fun c54 => ?_) (fun c54 => ?_)
                                                · omega
                                                · refine lv_aload_n hx hb dX1_digest_264 rfl (lv_at hl 2 rfl) ?_
                                                  refine lv_aload_n hx hb dX1_digest_265 rfl (lv_at hl 2 rfl) ?_
                                                  refine lv_iload_n hx hb dX1_digest_266 rfl (lv_at hl 1 rfl) ?_
                                                  refine lv_iload_n hx hb dX1_digest_267 rfl (lv_at hl 0 rfl) ?_
                                                  obtain ⟨sm, hxx⟩ := id hH1.2.2.1.1
                                                  refine z_go ((((122 + 60 * k + 320 * j) + 4) + 124) + 124) ((((1408 + 800 * k + 4200 * j) + 38) + 1220) + 1220) (z_runV (As := [.int (iI ((j : Nat) : Int)), .int (iI 5)]) (rest := [.ref (ρ (0, 0, 0))]) hC hml hl.1 (m_X1_ofElementNow_5 hE H53 (hO.ext (zS_F hS) hMo) ρ σ j hH1 (by omega)) (lw_V q451 q453 qs14 q62 q454) rfl nd_X1_ofElementNow rfl (z_rv hC (ci := 0) rfl hxx rfl) rfl (Nat.le_of_ble_eq_true rfl) ⟨Nat.le_of_ble_eq_true rfl, Nat.le_of_ble_eq_true rfl⟩ ⟨zfit (k := 124) (z := 3800) rfl rfl (by omega), zfit (k := 1220) (z := 50000) rfl rfl (by omega)⟩ dX1_digest_268) ⟨zad (k := 124) rfl (by omega), zad (k := 1220) rfl (by omega)⟩ hS (fun _ z => z.elim) (fun r H55 locs hp hF hS1 => ?_)
                                                  obtain ⟨_, rfl, rfl⟩ := hp
                                                  have hP := zpk hP hF
                                                  have hP : va_P G.1 zCl ([]) H55 := hP
                                                  have hD : va_D (zA (FC G ρ σ) H0) ([]) := hD
                                                  have hH1 : HC G s0 ρ σ H55 := hH1.ext0 hE hF
                                                  have hX9 : zAt G (ρ (0, 0, 0)) (zOb 0 [.int (iI (St_p σ)), .ref (ρ (1, 0, 0)), .ref (ρ (3, 0, 0)), .ref (ρ (5, 0, 0)), .int (iI (St_kn σ : Int)), .long (lI ((((((dgM (St_ev σ j) (dgI (dgE σ) (dgI (dgA σ) (dgM (myV σ) 58236 8) (St_na σ)) j) (St_n σ (St_ea σ j))) * 31 + wz (oeV σ j 0)) * 31 + wz (oeV σ j 1)) * 31 + wz (oeV σ j 2)) * 31 + wz (oeV σ j 3)) * 31 + wz (oeV σ j 4)))]) H55 := hX9.ext0 hF
                                                  have hS := hS1
                                                  have hX0 := hX9
                                                  obtain ⟨sm, hxx⟩ := id hH1.2.2.1.1
                                                  refine z_go ((((122 + 60 * k + 320 * j) + 4) + 124) + 124) ((((1408 + 800 * k + 4200 * j) + 38) + 1220) + 1220) (z_runV (As := [.int (iI (oeV σ j 5))]) (rest := []) hC hml hl.1 (m_X1_add hE H55 (hO.ext (zS_F hS) hMo) ρ σ ((((((dgM (St_ev σ j) (dgI (dgE σ) (dgI (dgA σ) (dgM (myV σ) 58236 8) (St_na σ)) j) (St_n σ (St_ea σ j))) * 31 + wz (oeV σ j 0)) * 31 + wz (oeV σ j 1)) * 31 + wz (oeV σ j 2)) * 31 + wz (oeV σ j 3)) * 31 + wz (oeV σ j 4)) (oeV σ j 5) hH1 hX0) (lw_V q363 q365 qs6 q62 q366) rfl nd_X1_add rfl (z_rv hC (ci := 0) rfl hxx rfl) rfl (Nat.le_of_ble_eq_true rfl) ⟨Nat.le_of_ble_eq_true rfl, Nat.le_of_ble_eq_true rfl⟩ ⟨zfit (k := 0) (z := 3800) rfl rfl (by omega), zfit (k := 0) (z := 50000) rfl rfl (by omega)⟩ dX1_digest_271) ⟨zad (k := 0) rfl (by omega), zad (k := 0) rfl (by omega)⟩ hS (fun z hz => Or.inl (hz ▸ FC.in hE hh.sep (dom0 0 (by omega)) (by simp))) (fun r H56 locs hp hF hS1 => ?_)
                                                  obtain ⟨_, rfl, rfl, hX9⟩ := hp
                                                  have hP : va_P G.1 zCl [] H56 := va_nil
                                                  have hD : va_D (zA (FC G ρ σ) H0) [] := va_nilD
                                                  have hP : va_P G.1 zCl ([]) H56 := hP
                                                  have hD : va_D (zA (FC G ρ σ) H0) ([]) := hD
                                                  have hH1 : HC G s0 ρ σ H56 := HC.kn hE hH1 hF hX9
                                                  have hS := hS1
                                                  refine lv_pop2_2 hx hb dX1_digest_274 rfl ?_
                                                  refine z_iinc (z := 6) (lv' := [(2, .int (iI 6)), (1, .int (iI ((j : Nat) : Int))), (0, .ref (ρ (0, 0, 0)))]) hx hb dX1_digest_275 hl (k := 0) rfl (by omega) (by decide) rfl (fun ls hl => ?_)
                                                  refine lv_goto (tgt := 258) hx hb dX1_digest_278 (by decide) ?_
                                                  refine lv_iload_n hx hb dX1_digest_258 rfl (lv_at hl 0 rfl) ?_
                                                  refine lv_bipush (v := iI 9) hx hb dX1_digest_259 (by decide) ?_
                                                  refine z_cgt (tgt := 281) hx hb dX1_digest_261 (by decide) (by omega) (fun c57 => ?_) (fun c57 => ?_)
                                                  · omega
                                                  · refine lv_aload_n hx hb dX1_digest_264 rfl (lv_at hl 2 rfl) ?_
                                                    refine lv_aload_n hx hb dX1_digest_265 rfl (lv_at hl 2 rfl) ?_
                                                    refine lv_iload_n hx hb dX1_digest_266 rfl (lv_at hl 1 rfl) ?_
                                                    refine lv_iload_n hx hb dX1_digest_267 rfl (lv_at hl 0 rfl) ?_
                                                    obtain ⟨sm, hxx⟩ := id hH1.2.2.1.1
                                                    refine z_go (((((122 + 60 * k + 320 * j) + 4) + 124) + 124) + 4) (((((1408 + 800 * k + 4200 * j) + 38) + 1220) + 1220) + 38) (z_runV (As := [.int (iI ((j : Nat) : Int)), .int (iI 6)]) (rest := [.ref (ρ (0, 0, 0))]) hC hml hl.1 (m_X1_ofElementNow_6 hE H56 (hO.ext (zS_F hS) hMo) ρ σ j hH1 (by omega)) (lw_V q451 q453 qs14 q62 q454) rfl nd_X1_ofElementNow rfl (z_rv hC (ci := 0) rfl hxx rfl) rfl (Nat.le_of_ble_eq_true rfl) ⟨Nat.le_of_ble_eq_true rfl, Nat.le_of_ble_eq_true rfl⟩ ⟨zfit (k := 4) (z := 3800) rfl rfl (by omega), zfit (k := 38) (z := 50000) rfl rfl (by omega)⟩ dX1_digest_268) ⟨zad (k := 4) rfl (by omega), zad (k := 38) rfl (by omega)⟩ hS (fun _ z => z.elim) (fun r H58 locs hp hF hS1 => ?_)
                                                    obtain ⟨_, rfl, rfl⟩ := hp
                                                    have hP := zpk hP hF
                                                    have hP : va_P G.1 zCl ([]) H58 := hP
                                                    have hD : va_D (zA (FC G ρ σ) H0) ([]) := hD
                                                    have hH1 : HC G s0 ρ σ H58 := hH1.ext0 hE hF
                                                    have hX9 : zAt G (ρ (0, 0, 0)) (zOb 0 [.int (iI (St_p σ)), .ref (ρ (1, 0, 0)), .ref (ρ (3, 0, 0)), .ref (ρ (5, 0, 0)), .int (iI (St_kn σ : Int)), .long (lI (((((((dgM (St_ev σ j) (dgI (dgE σ) (dgI (dgA σ) (dgM (myV σ) 58236 8) (St_na σ)) j) (St_n σ (St_ea σ j))) * 31 + wz (oeV σ j 0)) * 31 + wz (oeV σ j 1)) * 31 + wz (oeV σ j 2)) * 31 + wz (oeV σ j 3)) * 31 + wz (oeV σ j 4)) * 31 + wz (oeV σ j 5)))]) H58 := hX9.ext0 hF
                                                    have hS := hS1
                                                    have hX0 := hX9
                                                    obtain ⟨sm, hxx⟩ := id hH1.2.2.1.1
                                                    refine z_go (((((122 + 60 * k + 320 * j) + 4) + 124) + 124) + 4) (((((1408 + 800 * k + 4200 * j) + 38) + 1220) + 1220) + 38) (z_runV (As := [.int (iI (oeV σ j 6))]) (rest := []) hC hml hl.1 (m_X1_add hE H58 (hO.ext (zS_F hS) hMo) ρ σ (((((((dgM (St_ev σ j) (dgI (dgE σ) (dgI (dgA σ) (dgM (myV σ) 58236 8) (St_na σ)) j) (St_n σ (St_ea σ j))) * 31 + wz (oeV σ j 0)) * 31 + wz (oeV σ j 1)) * 31 + wz (oeV σ j 2)) * 31 + wz (oeV σ j 3)) * 31 + wz (oeV σ j 4)) * 31 + wz (oeV σ j 5)) (oeV σ j 6) hH1 hX0) (lw_V q363 q365 qs6 q62 q366) rfl nd_X1_add rfl (z_rv hC (ci := 0) rfl hxx rfl) rfl (Nat.le_of_ble_eq_true rfl) ⟨Nat.le_of_ble_eq_true rfl, Nat.le_of_ble_eq_true rfl⟩ ⟨zfit (k := 0) (z := 3800) rfl rfl (by omega), zfit (k := 0) (z := 50000) rfl rfl (by omega)⟩ dX1_digest_271) ⟨zad (k := 0) rfl (by omega), zad (k := 0) rfl (by omega)⟩ hS (fun z hz => Or.inl (hz ▸ FC.in hE hh.sep (dom0 0 (by omega)) (by simp))) (fun r H59 locs hp hF hS1 => ?_)
                                                    obtain ⟨_, rfl, rfl, hX9⟩ := hp
                                                    have hP : va_P G.1 zCl [] H59 := va_nil
                                                    have hD : va_D (zA (FC G ρ σ) H0) [] := va_nilD
                                                    have hP : va_P G.1 zCl ([]) H59 := hP
                                                    have hD : va_D (zA (FC G ρ σ) H0) ([]) := hD
                                                    have hH1 : HC G s0 ρ σ H59 := HC.kn hE hH1 hF hX9
                                                    have hS := hS1
                                                    refine lv_pop2_2 hx hb dX1_digest_274 rfl ?_
                                                    refine z_iinc (z := 7) (lv' := [(2, .int (iI 7)), (1, .int (iI ((j : Nat) : Int))), (0, .ref (ρ (0, 0, 0)))]) hx hb dX1_digest_275 hl (k := 0) rfl (by omega) (by decide) rfl (fun ls hl => ?_)
                                                    refine lv_goto (tgt := 258) hx hb dX1_digest_278 (by decide) ?_
                                                    refine lv_iload_n hx hb dX1_digest_258 rfl (lv_at hl 0 rfl) ?_
                                                    refine lv_bipush (v := iI 9) hx hb dX1_digest_259 (by decide) ?_
                                                    refine z_cgt (tgt := 281) hx hb dX1_digest_261 (by decide) (by omega) (fun c60 => ?_) (fun c60 => ?_)
                                                    · omega
                                                    · refine lv_aload_n hx hb dX1_digest_264 rfl (lv_at hl 2 rfl) ?_
                                                      refine lv_aload_n hx hb dX1_digest_265 rfl (lv_at hl 2 rfl) ?_
                                                      refine lv_iload_n hx hb dX1_digest_266 rfl (lv_at hl 1 rfl) ?_
                                                      refine lv_iload_n hx hb dX1_digest_267 rfl (lv_at hl 0 rfl) ?_
                                                      obtain ⟨sm, hxx⟩ := id hH1.2.2.1.1
                                                      refine z_go ((((((122 + 60 * k + 320 * j) + 4) + 124) + 124) + 4) + 2) ((((((1408 + 800 * k + 4200 * j) + 38) + 1220) + 1220) + 38) + 19) (z_runV (As := [.int (iI ((j : Nat) : Int)), .int (iI 7)]) (rest := [.ref (ρ (0, 0, 0))]) hC hml hl.1 (m_X1_ofElementNow_7 hE H59 (hO.ext (zS_F hS) hMo) ρ σ j hH1 (by omega)) (lw_V q451 q453 qs14 q62 q454) rfl nd_X1_ofElementNow rfl (z_rv hC (ci := 0) rfl hxx rfl) rfl (Nat.le_of_ble_eq_true rfl) ⟨Nat.le_of_ble_eq_true rfl, Nat.le_of_ble_eq_true rfl⟩ ⟨zfit (k := 2) (z := 3800) rfl rfl (by omega), zfit (k := 19) (z := 50000) rfl rfl (by omega)⟩ dX1_digest_268) ⟨zad (k := 2) rfl (by omega), zad (k := 19) rfl (by omega)⟩ hS (fun _ z => z.elim) (fun r H61 locs hp hF hS1 => ?_)
                                                      obtain ⟨_, rfl, rfl⟩ := hp
                                                      have hP := zpk hP hF
                                                      have hP : va_P G.1 zCl ([]) H61 := hP
                                                      have hD : va_D (zA (FC G ρ σ) H0) ([]) := hD
                                                      have hH1 : HC G s0 ρ σ H61 := hH1.ext0 hE hF
                                                      have hX9 : zAt G (ρ (0, 0, 0)) (zOb 0 [.int (iI (St_p σ)), .ref (ρ (1, 0, 0)), .ref (ρ (3, 0, 0)), .ref (ρ (5, 0, 0)), .int (iI (St_kn σ : Int)), .long (lI ((((((((dgM (St_ev σ j) (dgI (dgE σ) (dgI (dgA σ) (dgM (myV σ) 58236 8) (St_na σ)) j) (St_n σ (St_ea σ j))) * 31 + wz (oeV σ j 0)) * 31 + wz (oeV σ j 1)) * 31 + wz (oeV σ j 2)) * 31 + wz (oeV σ j 3)) * 31 + wz (oeV σ j 4)) * 31 + wz (oeV σ j 5)) * 31 + wz (oeV σ j 6)))]) H61 := hX9.ext0 hF
                                                      have hS := hS1
                                                      have hX0 := hX9
                                                      obtain ⟨sm, hxx⟩ := id hH1.2.2.1.1
                                                      refine z_go ((((((122 + 60 * k + 320 * j) + 4) + 124) + 124) + 4) + 2) ((((((1408 + 800 * k + 4200 * j) + 38) + 1220) + 1220) + 38) + 19) (z_runV (As := [.int (iI (oeV σ j 7))]) (rest := []) hC hml hl.1 (m_X1_add hE H61 (hO.ext (zS_F hS) hMo) ρ σ ((((((((dgM (St_ev σ j) (dgI (dgE σ) (dgI (dgA σ) (dgM (myV σ) 58236 8) (St_na σ)) j) (St_n σ (St_ea σ j))) * 31 + wz (oeV σ j 0)) * 31 + wz (oeV σ j 1)) * 31 + wz (oeV σ j 2)) * 31 + wz (oeV σ j 3)) * 31 + wz (oeV σ j 4)) * 31 + wz (oeV σ j 5)) * 31 + wz (oeV σ j 6)) (oeV σ j 7) hH1 hX0) (lw_V q363 q365 qs6 q62 q366) rfl nd_X1_add rfl (z_rv hC (ci := 0) rfl hxx rfl) rfl (Nat.le_of_ble_eq_true rfl) ⟨Nat.le_of_ble_eq_true rfl, Nat.le_of_ble_eq_true rfl⟩ ⟨zfit (k := 0) (z := 3800) rfl rfl (by omega), zfit (k := 0) (z := 50000) rfl rfl (by omega)⟩ dX1_digest_271) ⟨zad (k := 0) rfl (by omega), zad (k := 0) rfl (by omega)⟩ hS (fun z hz => Or.inl (hz ▸ FC.in hE hh.sep (dom0 0 (by omega)) (by simp))) (fun r H62 locs hp hF hS1 => ?_)
                                                      obtain ⟨_, rfl, rfl, hX9⟩ := hp
                                                      have hP : va_P G.1 zCl [] H62 := va_nil
                                                      have hD : va_D (zA (FC G ρ σ) H0) [] := va_nilD
                                                      have hP : va_P G.1 zCl ([]) H62 := hP
                                                      have hD : va_D (zA (FC G ρ σ) H0) ([]) := hD
                                                      have hH1 : HC G s0 ρ σ H62 := HC.kn hE hH1 hF hX9
                                                      have hS := hS1
                                                      refine lv_pop2_2 hx hb dX1_digest_274 rfl ?_
                                                      refine z_iinc (z := 8) (lv' := [(2, .int (iI 8)), (1, .int (iI ((j : Nat) : Int))), (0, .ref (ρ (0, 0, 0)))]) hx hb dX1_digest_275 hl (k := 0) rfl (by omega) (by decide) rfl (fun ls hl => ?_)
                                                      refine lv_goto (tgt := 258) hx hb dX1_digest_278 (by decide) ?_
                                                      refine lv_iload_n hx hb dX1_digest_258 rfl (lv_at hl 0 rfl) ?_
                                                      refine lv_bipush (v := iI 9) hx hb dX1_digest_259 (by decide) ?_
                                                      refine z_cgt (tgt := 281) hx hb dX1_digest_261 (by decide) (by omega) (fun c63 => ?_) (fun c63 => ?_)
                                                      · omega
                                                      · refine lv_aload_n hx hb dX1_digest_264 rfl (lv_at hl 2 rfl) ?_
                                                        refine lv_aload_n hx hb dX1_digest_265 rfl (lv_at hl 2 rfl) ?_
                                                        refine lv_iload_n hx hb dX1_digest_266 rfl (lv_at hl 1 rfl) ?_
                                                        refine lv_iload_n hx hb dX1_digest_267 rfl (lv_at hl 0 rfl) ?_
                                                        obtain ⟨sm, hxx⟩ := id hH1.2.2.1.1
                                                        refine z_go (((((((122 + 60 * k + 320 * j) + 4) + 124) + 124) + 4) + 2) + 18) (((((((1408 + 800 * k + 4200 * j) + 38) + 1220) + 1220) + 38) + 19) + 288) (z_runV (As := [.int (iI ((j : Nat) : Int)), .int (iI 8)]) (rest := [.ref (ρ (0, 0, 0))]) hC hml hl.1 (m_X1_ofElementNow_8 hE H62 (hO.ext (zS_F hS) hMo) ρ σ j hH1 (by omega)) (lw_V q451 q453 qs14 q62 q454) rfl nd_X1_ofElementNow rfl (z_rv hC (ci := 0) rfl hxx rfl) rfl (Nat.le_of_ble_eq_true rfl) ⟨Nat.le_of_ble_eq_true rfl, Nat.le_of_ble_eq_true rfl⟩ ⟨zfit (k := 18) (z := 3800) rfl rfl (by omega), zfit (k := 288) (z := 50000) rfl rfl (by omega)⟩ dX1_digest_268) ⟨zad (k := 18) rfl (by omega), zad (k := 288) rfl (by omega)⟩ hS (fun _ z => z.elim) (fun r H64 locs hp hF hS1 => ?_)
                                                        obtain ⟨_, rfl, rfl⟩ := hp
                                                        have hP := zpk hP hF
                                                        have hP : va_P G.1 zCl ([]) H64 := hP
                                                        have hD : va_D (zA (FC G ρ σ) H0) ([]) := hD
                                                        have hH1 : HC G s0 ρ σ H64 := hH1.ext0 hE hF
                                                        have hX9 : zAt G (ρ (0, 0, 0)) (zOb 0 [.int (iI (St_p σ)), .ref (ρ (1, 0, 0)), .ref (ρ (3, 0, 0)), .ref (ρ (5, 0, 0)), .int (iI (St_kn σ : Int)), .long (lI (((((((((dgM (St_ev σ j) (dgI (dgE σ) (dgI (dgA σ) (dgM (myV σ) 58236 8) (St_na σ)) j) (St_n σ (St_ea σ j))) * 31 + wz (oeV σ j 0)) * 31 + wz (oeV σ j 1)) * 31 + wz (oeV σ j 2)) * 31 + wz (oeV σ j 3)) * 31 + wz (oeV σ j 4)) * 31 + wz (oeV σ j 5)) * 31 + wz (oeV σ j 6)) * 31 + wz (oeV σ j 7)))]) H64 := hX9.ext0 hF
                                                        have hS := hS1
                                                        have hX0 := hX9
                                                        obtain ⟨sm, hxx⟩ := id hH1.2.2.1.1
                                                        refine z_go (((((((122 + 60 * k + 320 * j) + 4) + 124) + 124) + 4) + 2) + 18) (((((((1408 + 800 * k + 4200 * j) + 38) + 1220) + 1220) + 38) + 19) + 288) (z_runV (As := [.int (iI (oeV σ j 8))]) (rest := []) hC hml hl.1 (m_X1_add hE H64 (hO.ext (zS_F hS) hMo) ρ σ (((((((((dgM (St_ev σ j) (dgI (dgE σ) (dgI (dgA σ) (dgM (myV σ) 58236 8) (St_na σ)) j) (St_n σ (St_ea σ j))) * 31 + wz (oeV σ j 0)) * 31 + wz (oeV σ j 1)) * 31 + wz (oeV σ j 2)) * 31 + wz (oeV σ j 3)) * 31 + wz (oeV σ j 4)) * 31 + wz (oeV σ j 5)) * 31 + wz (oeV σ j 6)) * 31 + wz (oeV σ j 7)) (oeV σ j 8) hH1 hX0) (lw_V q363 q365 qs6 q62 q366) rfl nd_X1_add rfl (z_rv hC (ci := 0) rfl hxx rfl) rfl (Nat.le_of_ble_eq_true rfl) ⟨Nat.le_of_ble_eq_true rfl, Nat.le_of_ble_eq_true rfl⟩ ⟨zfit (k := 0) (z := 3800) rfl rfl (by omega), zfit (k := 0) (z := 50000) rfl rfl (by omega)⟩ dX1_digest_271) ⟨zad (k := 0) rfl (by omega), zad (k := 0) rfl (by omega)⟩ hS (fun z hz => Or.inl (hz ▸ FC.in hE hh.sep (dom0 0 (by omega)) (by simp))) (fun r H65 locs hp hF hS1 => ?_)
                                                        obtain ⟨_, rfl, rfl, hX9⟩ := hp
                                                        have hP : va_P G.1 zCl [] H65 := va_nil
                                                        have hD : va_D (zA (FC G ρ σ) H0) [] := va_nilD
                                                        have hP : va_P G.1 zCl ([]) H65 := hP
                                                        have hD : va_D (zA (FC G ρ σ) H0) ([]) := hD
                                                        have hH1 : HC G s0 ρ σ H65 := HC.kn hE hH1 hF hX9
                                                        have hS := hS1
                                                        refine lv_pop2_2 hx hb dX1_digest_274 rfl ?_
                                                        refine z_iinc (z := 9) (lv' := [(2, .int (iI 9)), (1, .int (iI ((j : Nat) : Int))), (0, .ref (ρ (0, 0, 0)))]) hx hb dX1_digest_275 hl (k := 0) rfl (by omega) (by decide) rfl (fun ls hl => ?_)
                                                        refine lv_goto (tgt := 258) hx hb dX1_digest_278 (by decide) ?_
                                                        refine lv_iload_n hx hb dX1_digest_258 rfl (lv_at hl 0 rfl) ?_
                                                        refine lv_bipush (v := iI 9) hx hb dX1_digest_259 (by decide) ?_
                                                        refine z_cgt (tgt := 281) hx hb dX1_digest_261 (by decide) (by omega) (fun c66 => ?_) (fun c66 => ?_)
                                                        · omega
                                                        · refine lv_aload_n hx hb dX1_digest_264 rfl (lv_at hl 2 rfl) ?_
                                                          refine lv_aload_n hx hb dX1_digest_265 rfl (lv_at hl 2 rfl) ?_
                                                          refine lv_iload_n hx hb dX1_digest_266 rfl (lv_at hl 1 rfl) ?_
                                                          refine lv_iload_n hx hb dX1_digest_267 rfl (lv_at hl 0 rfl) ?_
                                                          obtain ⟨sm, hxx⟩ := id hH1.2.2.1.1
                                                          refine z_go ((((((((122 + 60 * k + 320 * j) + 4) + 124) + 124) + 4) + 2) + 18) + 18) ((((((((1408 + 800 * k + 4200 * j) + 38) + 1220) + 1220) + 38) + 19) + 288) + 288) (z_runV (As := [.int (iI ((j : Nat) : Int)), .int (iI 9)]) (rest := [.ref (ρ (0, 0, 0))]) hC hml hl.1 (m_X1_ofElementNow_9 hE H65 (hO.ext (zS_F hS) hMo) ρ σ j hH1 (by omega)) (lw_V q451 q453 qs14 q62 q454) rfl nd_X1_ofElementNow rfl (z_rv hC (ci := 0) rfl hxx rfl) rfl (Nat.le_of_ble_eq_true rfl) ⟨Nat.le_of_ble_eq_true rfl, Nat.le_of_ble_eq_true rfl⟩ ⟨zfit (k := 18) (z := 3800) rfl rfl (by omega), zfit (k := 288) (z := 50000) rfl rfl (by omega)⟩ dX1_digest_268) ⟨zad (k := 18) rfl (by omega), zad (k := 288) rfl (by omega)⟩ hS (fun _ z => z.elim) (fun r H67 locs hp hF hS1 => ?_)
                                                          obtain ⟨_, rfl, rfl⟩ := hp
                                                          have hP := zpk hP hF
                                                          have hP : va_P G.1 zCl ([]) H67 := hP
                                                          have hD : va_D (zA (FC G ρ σ) H0) ([]) := hD
                                                          have hH1 : HC G s0 ρ σ H67 := hH1.ext0 hE hF
                                                          have hX9 : zAt G (ρ (0, 0, 0)) (zOb 0 [.int (iI (St_p σ)), .ref (ρ (1, 0, 0)), .ref (ρ (3, 0, 0)), .ref (ρ (5, 0, 0)), .int (iI (St_kn σ : Int)), .long (lI ((((((((((dgM (St_ev σ j) (dgI (dgE σ) (dgI (dgA σ) (dgM (myV σ) 58236 8) (St_na σ)) j) (St_n σ (St_ea σ j))) * 31 + wz (oeV σ j 0)) * 31 + wz (oeV σ j 1)) * 31 + wz (oeV σ j 2)) * 31 + wz (oeV σ j 3)) * 31 + wz (oeV σ j 4)) * 31 + wz (oeV σ j 5)) * 31 + wz (oeV σ j 6)) * 31 + wz (oeV σ j 7)) * 31 + wz (oeV σ j 8)))]) H67 := hX9.ext0 hF
                                                          have hS := hS1
                                                          have hX0 := hX9
                                                          obtain ⟨sm, hxx⟩ := id hH1.2.2.1.1
                                                          refine z_go ((((((((122 + 60 * k + 320 * j) + 4) + 124) + 124) + 4) + 2) + 18) + 18) ((((((((1408 + 800 * k + 4200 * j) + 38) + 1220) + 1220) + 38) + 19) + 288) + 288) (z_runV (As := [.int (iI (oeV σ j 9))]) (rest := []) hC hml hl.1 (m_X1_add hE H67 (hO.ext (zS_F hS) hMo) ρ σ ((((((((((dgM (St_ev σ j) (dgI (dgE σ) (dgI (dgA σ) (dgM (myV σ) 58236 8) (St_na σ)) j) (St_n σ (St_ea σ j))) * 31 + wz (oeV σ j 0)) * 31 + wz (oeV σ j 1)) * 31 + wz (oeV σ j 2)) * 31 + wz (oeV σ j 3)) * 31 + wz (oeV σ j 4)) * 31 + wz (oeV σ j 5)) * 31 + wz (oeV σ j 6)) * 31 + wz (oeV σ j 7)) * 31 + wz (oeV σ j 8)) (oeV σ j 9) hH1 hX0) (lw_V q363 q365 qs6 q62 q366) rfl nd_X1_add rfl (z_rv hC (ci := 0) rfl hxx rfl) rfl (Nat.le_of_ble_eq_true rfl) ⟨Nat.le_of_ble_eq_true rfl, Nat.le_of_ble_eq_true rfl⟩ ⟨zfit (k := 0) (z := 3800) rfl rfl (by omega), zfit (k := 0) (z := 50000) rfl rfl (by omega)⟩ dX1_digest_271) ⟨zad (k := 0) rfl (by omega), zad (k := 0) rfl (by omega)⟩ hS (fun z hz => Or.inl (hz ▸ FC.in hE hh.sep (dom0 0 (by omega)) (by simp))) (fun r H68 locs hp hF hS1 => ?_)
                                                          obtain ⟨_, rfl, rfl, hX9⟩ := hp
                                                          have hP : va_P G.1 zCl [] H68 := va_nil
                                                          have hD : va_D (zA (FC G ρ σ) H0) [] := va_nilD
                                                          have hP : va_P G.1 zCl ([]) H68 := hP
                                                          have hD : va_D (zA (FC G ρ σ) H0) ([]) := hD
                                                          have hH1 : HC G s0 ρ σ H68 := HC.kn hE hH1 hF hX9
                                                          have hS := hS1
                                                          refine lv_pop2_2 hx hb dX1_digest_274 rfl ?_
                                                          refine z_iinc (z := 10) (lv' := [(2, .int (iI 10)), (1, .int (iI ((j : Nat) : Int))), (0, .ref (ρ (0, 0, 0)))]) hx hb dX1_digest_275 hl (k := 0) rfl (by omega) (by decide) rfl (fun ls hl => ?_)
                                                          refine lv_goto (tgt := 258) hx hb dX1_digest_278 (by decide) ?_
                                                          refine lv_iload_n hx hb dX1_digest_258 rfl (lv_at hl 0 rfl) ?_
                                                          refine lv_bipush (v := iI 9) hx hb dX1_digest_259 (by decide) ?_
                                                          refine z_cgt (tgt := 281) hx hb dX1_digest_261 (by decide) (by omega) (fun c69 => ?_) (fun c69 => ?_)
                                                          · have hX9 : zAt G (ρ (0, 0, 0)) (zOb 0 [.int (iI (St_p σ)), .ref (ρ (1, 0, 0)), .ref (ρ (3, 0, 0)), .ref (ρ (5, 0, 0)), .int (iI (St_kn σ : Int)), .long (lI (dgM (oeV σ j) (dgM (St_ev σ j) (dgI (dgE σ) (dgI (dgA σ) (dgM (myV σ) 58236 8) (St_na σ)) j) (St_n σ (St_ea σ j))) 10))]) H68 := hX9
                                                            obtain ⟨sm, hxx⟩ := id hH1.2.2.1.1
                                                            refine lv_aload_n hx hb dX1_digest_281 rfl (lv_at hl 2 rfl) ?_
                                                            refine lv_aload_n hx hb dX1_digest_282 rfl (lv_at hl 2 rfl) ?_
                                                            refine z_get hC (k := 2) rfl in_X1 hxx (by decide) q153 (fun _ h => h) rfl dX1_digest_283 ?_
                                                            refine lv_iload_n hx hb dX1_digest_286 rfl (lv_at hl 1 rfl) ?_
                                                            obtain ⟨mde, hLe⟩ := id hH1.2.2.1.2.2.1
                                                            refine z_go ((((((((122 + 60 * k + 320 * j) + 4) + 124) + 124) + 4) + 2) + 18) + 18) ((((((((1408 + 800 * k + 4200 * j) + 38) + 1220) + 1220) + 38) + 19) + 288) + 288) (z_runV (As := [.int (iI ((j : Nat) : Int))]) (rest := [.ref (ρ (0, 0, 0))]) hC hml hl.1 (m_J2_get hE H68 (hO.ext (zS_F hS) hMo) (ρ (3, 0, 0)) (St_ne σ) (fun j => ρ (13, j, 0)) (ρ (4, 0, 0)) mde j hLe (by omega)) (lw_V q372 q373 q374 q65 q375) rfl nd_J2_get rfl (z_rv hC (ci := 8) rfl hLe.1 rfl) rfl (Nat.le_of_ble_eq_true rfl) ⟨Nat.le_of_ble_eq_true rfl, Nat.le_of_ble_eq_true rfl⟩ ⟨zfit (k := 0) (z := 3800) rfl rfl (by omega), zfit (k := 0) (z := 50000) rfl rfl (by omega)⟩ dX1_digest_287) ⟨zad (k := 0) rfl (by omega), zad (k := 0) rfl (by omega)⟩ hS (fun _ z => z.elim) (fun r H70 locs hp hF hS1 => ?_)
                                                            obtain ⟨_, rfl, rfl⟩ := hp
                                                            have hP := zpk hP hF
                                                            have hP : va_P G.1 zCl ([]) H70 := hP
                                                            have hD : va_D (zA (FC G ρ σ) H0) ([]) := hD
                                                            have hH1 : HC G s0 ρ σ H70 := hH1.ext0 hE hF
                                                            have hX9 : zAt G (ρ (0, 0, 0)) (zOb 0 [.int (iI (St_p σ)), .ref (ρ (1, 0, 0)), .ref (ρ (3, 0, 0)), .ref (ρ (5, 0, 0)), .int (iI (St_kn σ : Int)), .long (lI (dgM (oeV σ j) (dgM (St_ev σ j) (dgI (dgE σ) (dgI (dgA σ) (dgM (myV σ) 58236 8) (St_na σ)) j) (St_n σ (St_ea σ j))) 10))]) H70 := hX9.ext0 hF
                                                            have hS := hS1
                                                            have hvj := hH1.row (j := j) (by omega)
                                                            have hEj := hH1.el (j := j) (by omega)
                                                            have heaj := hH1.ea (j := j) (by omega)
                                                            obtain ⟨hn16j, -⟩ := (hH1.ag heaj).n
                                                            refine z_cast hC (ci := 6) rfl hEj.1 rfl q220 dX1_digest_290 ?_
                                                            have htl := txF_len (St_ev σ j) (St_n σ (St_ea σ j))
                                                            refine z_go (((((((((122 + 60 * k + 320 * j) + 4) + 124) + 124) + 4) + 2) + 18) + 18) + 12) (((((((((1408 + 800 * k + 4200 * j) + 38) + 1220) + 1220) + 38) + 19) + 288) + 288) + 900) (z_runV (As := []) (rest := [.ref (ρ (0, 0, 0))]) hC hml hl.1 (m_X7_toString hE H70 (hO.ext (zS_F hS) hMo) (ρ (0, 0, 0)) (ρ (6, St_ea σ j, 0)) (St_p σ) (St_d σ (St_ea σ j)) (St_n σ (St_ea σ j)) (St_kd σ (St_ea σ j)) (St_dv σ (St_ea σ j)) (St_sg σ (St_ea σ j)) (ρ (13, j, 0)) (ρ (14, j, 0)) (St_ev σ j)  (hH1.ag (hH1.ea (j := j) (by omega))) (hH1.el (j := j) (by omega)) hvj ) (lw_V q545 q546 q547 q92 q548) rfl nd_X7_toString rfl (z_rv hC (ci := 6) rfl hEj.1 rfl) rfl (Nat.le_of_ble_eq_true rfl) ⟨Nat.le_of_ble_eq_true rfl, Nat.le_of_ble_eq_true rfl⟩ ⟨zfit (k := 12) (z := 3800) rfl rfl (by omega), zfit (k := 900) (z := 50000) rfl rfl (by omega)⟩ dX1_digest_293) ⟨zad (k := 12) rfl (by omega), zad (k := 900) rfl (by omega)⟩ hS (fun _ z => z.elim) (fun r H71 locs hp hF hS1 => ?_)
                                                            obtain ⟨qs, rfl, hst⟩ := hp
                                                            have hP : va_P G.1 zCl [] H71 := va_nil
                                                            have hD : va_D (zA (FC G ρ σ) H0) [] := va_nilD
                                                            have hP : va_P G.1 zCl ([]) H71 := hP
                                                            have hD : va_D (zA (FC G ρ σ) H0) ([]) := hD
                                                            have hH1 : HC G s0 ρ σ H71 := hH1.ext0 hE hF
                                                            have hX9 : zAt G (ρ (0, 0, 0)) (zOb 0 [.int (iI (St_p σ)), .ref (ρ (1, 0, 0)), .ref (ρ (3, 0, 0)), .ref (ρ (5, 0, 0)), .int (iI (St_kn σ : Int)), .long (lI (dgM (oeV σ j) (dgM (St_ev σ j) (dgI (dgE σ) (dgI (dgA σ) (dgM (myV σ) 58236 8) (St_na σ)) j) (St_n σ (St_ea σ j))) 10))]) H71 := hX9.ext0 hF
                                                            have hS := hS1
                                                            rcases hst with ⟨b9, hN⟩ | ⟨eq9, hL9⟩
                                                            · refine z_go (((((((((122 + 60 * k + 320 * j) + 4) + 124) + 124) + 4) + 2) + 18) + 18) + 12) (((((((((1408 + 800 * k + 4200 * j) + 38) + 1220) + 1220) + 38) + 19) + 288) + 288) + 900) (z_runV (As := []) (rest := [.ref (ρ (0, 0, 0))]) hC hml hl.1 (m_J14_length hE H71 (hO.ext (zS_F hS) hMo) qs b9 (txF (St_n σ (St_ea σ j)) (St_ev σ j)) (hN.1 0 _ rfl) (hN.1 1 _ rfl) (by omega)) (lw_V q879 q807 q808 q85 q809) rfl nd_J14_length rfl (z_rv hC (ci := 12) rfl (hN.1 0 _ rfl) rfl) rfl (Nat.le_of_ble_eq_true rfl) ⟨Nat.le_of_ble_eq_true rfl, Nat.le_of_ble_eq_true rfl⟩ ⟨zfit (k := 0) (z := 3800) rfl rfl (by omega), zfit (k := 0) (z := 50000) rfl rfl (by omega)⟩ dX1_digest_296) ⟨zad (k := 0) rfl (by omega), zad (k := 0) rfl (by omega)⟩ hS (fun _ z => z.elim) (fun r H72 locs hp hF hS1 => ?_)
                                                              obtain ⟨_, rfl, rfl⟩ := hp
                                                              have hP := zpk hP hF
                                                              have hP : va_P G.1 zCl ([]) H72 := hP
                                                              have hD : va_D (zA (FC G ρ σ) H0) ([]) := hD
                                                              have hH1 : HC G s0 ρ σ H72 := hH1.ext0 hE hF
                                                              have hX9 : zAt G (ρ (0, 0, 0)) (zOb 0 [.int (iI (St_p σ)), .ref (ρ (1, 0, 0)), .ref (ρ (3, 0, 0)), .ref (ρ (5, 0, 0)), .int (iI (St_kn σ : Int)), .long (lI (dgM (oeV σ j) (dgM (St_ev σ j) (dgI (dgE σ) (dgI (dgA σ) (dgM (myV σ) 58236 8) (St_na σ)) j) (St_n σ (St_ea σ j))) 10))]) H72 := hX9.ext0 hF
                                                              have hS := hS1
                                                              have hX0 := hX9
                                                              obtain ⟨sm, hxx⟩ := id hH1.2.2.1.1
                                                              refine z_go (((((((((122 + 60 * k + 320 * j) + 4) + 124) + 124) + 4) + 2) + 18) + 18) + 12) (((((((((1408 + 800 * k + 4200 * j) + 38) + 1220) + 1220) + 38) + 19) + 288) + 288) + 900) (z_runV (As := [.int (iI (((txF (St_n σ (St_ea σ j)) (St_ev σ j)).length : Nat) : Int))]) (rest := []) hC hml hl.1 (m_X1_add hE H72 (hO.ext (zS_F hS) hMo) ρ σ (dgM (oeV σ j) (dgM (St_ev σ j) (dgI (dgE σ) (dgI (dgA σ) (dgM (myV σ) 58236 8) (St_na σ)) j) (St_n σ (St_ea σ j))) 10) ((((txF (St_n σ (St_ea σ j)) (St_ev σ j)).length : Nat) : Int)) hH1 hX0) (lw_V q363 q365 qs6 q62 q366) rfl nd_X1_add rfl (z_rv hC (ci := 0) rfl hxx rfl) rfl (Nat.le_of_ble_eq_true rfl) ⟨Nat.le_of_ble_eq_true rfl, Nat.le_of_ble_eq_true rfl⟩ ⟨zfit (k := 0) (z := 3800) rfl rfl (by omega), zfit (k := 0) (z := 50000) rfl rfl (by omega)⟩ dX1_digest_299) ⟨zad (k := 0) rfl (by omega), zad (k := 0) rfl (by omega)⟩ hS (fun z hz => Or.inl (hz ▸ FC.in hE hh.sep (dom0 0 (by omega)) (by simp))) (fun r H73 locs hp hF hS1 => ?_)
                                                              obtain ⟨_, rfl, rfl, hX9⟩ := hp
                                                              have hP : va_P G.1 zCl [] H73 := va_nil
                                                              have hD : va_D (zA (FC G ρ σ) H0) [] := va_nilD
                                                              have hP : va_P G.1 zCl ([]) H73 := hP
                                                              have hD : va_D (zA (FC G ρ σ) H0) ([]) := hD
                                                              have hH1 : HC G s0 ρ σ H73 := HC.kn hE hH1 hF hX9
                                                              have hS := hS1
                                                              refine lv_pop2_2 hx hb dX1_digest_302 rfl ?_
                                                              refine z_iinc (z := ((j + 1 : Nat) : Int)) (lv' := [(1, .int (iI ((j + 1 : Nat) : Int))), (2, .int (iI 10)), (0, .ref (ρ (0, 0, 0)))]) hx hb dX1_digest_303 hl (k := 1) rfl (by omega) (by decide) rfl (fun ls hl => ?_)
                                                              refine lv_goto (tgt := 199) hx hb dX1_digest_306 (by decide) ?_
                                                              have hX9 : zAt G (ρ (0, 0, 0)) (zOb 0 [.int (iI (St_p σ)), .ref (ρ (1, 0, 0)), .ref (ρ (3, 0, 0)), .ref (ρ (5, 0, 0)), .int (iI (St_kn σ : Int)), .long (lI (dgI (dgE σ) (dgI (dgA σ) (dgM (myV σ) 58236 8) (St_na σ)) (j + 1)))]) H73 := hX9
                                                              exact W.widen (by omega) (by omega) (ihlp31 (St_ne σ - (j + 1)) (by omega) (j + 1) rfl (by omega) _ _ _ hH1 hX9 hP hD hS (lv_sub hl [0, 2] rfl))
                                                            · subst eq9
                                                              refine z_go (((((((((122 + 60 * k + 320 * j) + 4) + 124) + 124) + 4) + 2) + 18) + 18) + 12) (((((((((1408 + 800 * k + 4200 * j) + 38) + 1220) + 1220) + 38) + 19) + 288) + 288) + 900) (z_runV (As := []) (rest := [.ref (ρ (0, 0, 0))]) hC hml hl.1 (m_J14_length_k hE H71 (hO.ext (zS_F hS) hMo)  ) (lw_V q879 q807 q808 q85 q809) rfl nd_J14_length rfl (z_rs0 hE hC.w (hO.ext (zS_F hS) hMo)) rfl (Nat.le_of_ble_eq_true rfl) ⟨Nat.le_of_ble_eq_true rfl, Nat.le_of_ble_eq_true rfl⟩ ⟨zfit (k := 0) (z := 3800) rfl rfl (by omega), zfit (k := 0) (z := 50000) rfl rfl (by omega)⟩ dX1_digest_296) ⟨zad (k := 0) rfl (by omega), zad (k := 0) rfl (by omega)⟩ hS (fun _ z => z.elim) (fun r H74 locs hp hF hS1 => ?_)
                                                              obtain ⟨_, rfl, rfl⟩ := hp
                                                              have hP := zpk hP hF
                                                              have hP : va_P G.1 zCl ([]) H74 := hP
                                                              have hD : va_D (zA (FC G ρ σ) H0) ([]) := hD
                                                              have hH1 : HC G s0 ρ σ H74 := hH1.ext0 hE hF
                                                              have hX9 : zAt G (ρ (0, 0, 0)) (zOb 0 [.int (iI (St_p σ)), .ref (ρ (1, 0, 0)), .ref (ρ (3, 0, 0)), .ref (ρ (5, 0, 0)), .int (iI (St_kn σ : Int)), .long (lI (dgM (oeV σ j) (dgM (St_ev σ j) (dgI (dgE σ) (dgI (dgA σ) (dgM (myV σ) 58236 8) (St_na σ)) j) (St_n σ (St_ea σ j))) 10))]) H74 := hX9.ext0 hF
                                                              have hS := hS1
                                                              refine z_top (b := (((txF (St_n σ (St_ea σ j)) (St_ev σ j)).length : Nat) : Int)) (by rw [hL9]; rfl) ?_
                                                              have hX0 := hX9
                                                              obtain ⟨sm, hxx⟩ := id hH1.2.2.1.1
                                                              refine z_go (((((((((122 + 60 * k + 320 * j) + 4) + 124) + 124) + 4) + 2) + 18) + 18) + 12) (((((((((1408 + 800 * k + 4200 * j) + 38) + 1220) + 1220) + 38) + 19) + 288) + 288) + 900) (z_runV (As := [.int (iI (((txF (St_n σ (St_ea σ j)) (St_ev σ j)).length : Nat) : Int))]) (rest := []) hC hml hl.1 (m_X1_add hE H74 (hO.ext (zS_F hS) hMo) ρ σ (dgM (oeV σ j) (dgM (St_ev σ j) (dgI (dgE σ) (dgI (dgA σ) (dgM (myV σ) 58236 8) (St_na σ)) j) (St_n σ (St_ea σ j))) 10) ((((txF (St_n σ (St_ea σ j)) (St_ev σ j)).length : Nat) : Int)) hH1 hX0) (lw_V q363 q365 qs6 q62 q366) rfl nd_X1_add rfl (z_rv hC (ci := 0) rfl hxx rfl) rfl (Nat.le_of_ble_eq_true rfl) ⟨Nat.le_of_ble_eq_true rfl, Nat.le_of_ble_eq_true rfl⟩ ⟨zfit (k := 0) (z := 3800) rfl rfl (by omega), zfit (k := 0) (z := 50000) rfl rfl (by omega)⟩ dX1_digest_299) ⟨zad (k := 0) rfl (by omega), zad (k := 0) rfl (by omega)⟩ hS (fun z hz => Or.inl (hz ▸ FC.in hE hh.sep (dom0 0 (by omega)) (by simp))) (fun r H75 locs hp hF hS1 => ?_)
                                                              obtain ⟨_, rfl, rfl, hX9⟩ := hp
                                                              have hP : va_P G.1 zCl [] H75 := va_nil
                                                              have hD : va_D (zA (FC G ρ σ) H0) [] := va_nilD
                                                              have hP : va_P G.1 zCl ([]) H75 := hP
                                                              have hD : va_D (zA (FC G ρ σ) H0) ([]) := hD
                                                              have hH1 : HC G s0 ρ σ H75 := HC.kn hE hH1 hF hX9
                                                              have hS := hS1
                                                              refine lv_pop2_2 hx hb dX1_digest_302 rfl ?_
                                                              refine z_iinc (z := ((j + 1 : Nat) : Int)) (lv' := [(1, .int (iI ((j + 1 : Nat) : Int))), (2, .int (iI 10)), (0, .ref (ρ (0, 0, 0)))]) hx hb dX1_digest_303 hl (k := 1) rfl (by omega) (by decide) rfl (fun ls hl => ?_)
                                                              refine lv_goto (tgt := 199) hx hb dX1_digest_306 (by decide) ?_
                                                              have hX9 : zAt G (ρ (0, 0, 0)) (zOb 0 [.int (iI (St_p σ)), .ref (ρ (1, 0, 0)), .ref (ρ (3, 0, 0)), .ref (ρ (5, 0, 0)), .int (iI (St_kn σ : Int)), .long (lI (dgI (dgE σ) (dgI (dgA σ) (dgM (myV σ) 58236 8) (St_na σ)) (j + 1)))]) H75 := hX9
                                                              exact W.widen (by omega) (by omega) (ihlp31 (St_ne σ - (j + 1)) (by omega) (j + 1) rfl (by omega) _ _ _ hH1 hX9 hP hD hS (lv_sub hl [0, 2] rfl))
                                                          · omega
                                    · refine lv_aload_n hx hb dX1_digest_237 rfl (lv_at hl 2 rfl) ?_
                                      refine lv_iload hx hb dX1_digest_238 (lv_at hl 0 rfl) ?_
                                      refine z_iald hC hEj.2 (k := u) rfl (by omega) (y := (St_ev σ j) u) rfl dX1_digest_240 ?_
                                      refine lv_istore (lv' := [(5, .int (iI ((St_ev σ j) u))), (4, .int (iI ((u : Nat) : Int))), (3, .int (iI ((St_n σ (St_ea σ j) : Nat) : Int))), (2, .ref (ρ (14, j, 0))), (1, .int (iI ((j : Nat) : Int))), (0, .ref (ρ (0, 0, 0)))]) hx hb dX1_digest_241 hl (by decide) rfl (fun ls hl => ?_)
                                      refine lv_aload_n hx hb dX1_digest_243 rfl (lv_at hl 5 rfl) ?_
                                      refine lv_iload hx hb dX1_digest_244 (lv_at hl 0 rfl) ?_
                                      have hX0 := hX9
                                      obtain ⟨sm, hxx⟩ := id hH1.2.2.1.1
                                      refine z_go (122 + 60 * k + 320 * j) (1408 + 800 * k + 4200 * j) (z_runV (As := [.int (iI ((St_ev σ j) u))]) (rest := []) hC hml hl.1 (m_X1_add hE H37 (hO.ext (zS_F hS) hMo) ρ σ (dgM (St_ev σ j) (dgI (dgE σ) (dgI (dgA σ) (dgM (myV σ) 58236 8) (St_na σ)) j) u) (St_ev σ j u) hH1 hX0) (lw_V q363 q365 qs6 q62 q366) rfl nd_X1_add rfl (z_rv hC (ci := 0) rfl hxx rfl) rfl (Nat.le_of_ble_eq_true rfl) ⟨Nat.le_of_ble_eq_true rfl, Nat.le_of_ble_eq_true rfl⟩ ⟨zfit (k := 0) (z := 3800) rfl rfl (by omega), zfit (k := 0) (z := 50000) rfl rfl (by omega)⟩ dX1_digest_246) ⟨zad (k := 0) rfl (by omega), zad (k := 0) rfl (by omega)⟩ hS (fun z hz => Or.inl (hz ▸ FC.in hE hh.sep (dom0 0 (by omega)) (by simp))) (fun r H76 locs hp hF hS1 => ?_)
                                      obtain ⟨_, rfl, rfl, hX9⟩ := hp
                                      have hP : va_P G.1 zCl [] H76 := va_nil
                                      have hD : va_D (zA (FC G ρ σ) H0) [] := va_nilD
                                      have hP : va_P G.1 zCl ([]) H76 := hP
                                      have hD : va_D (zA (FC G ρ σ) H0) ([]) := hD
                                      have hH1 : HC G s0 ρ σ H76 := HC.kn hE hH1 hF hX9
                                      have hS := hS1
                                      refine lv_pop2_2 hx hb dX1_digest_249 rfl ?_
                                      refine z_iinc (z := ((u + 1 : Nat) : Int)) (lv' := [(4, .int (iI ((u + 1 : Nat) : Int))), (5, .int (iI ((St_ev σ j) u))), (3, .int (iI ((St_n σ (St_ea σ j) : Nat) : Int))), (2, .ref (ρ (14, j, 0))), (1, .int (iI ((j : Nat) : Int))), (0, .ref (ρ (0, 0, 0)))]) hx hb dX1_digest_250 hl (k := 1) rfl (by omega) (by decide) rfl (fun ls hl => ?_)
                                      refine lv_goto (tgt := 231) hx hb dX1_digest_253 (by decide) ?_
                                      exact W.widen (by omega) (by omega) (ihlp36 (St_n σ (St_ea σ j) - (u + 1)) (by omega) (u + 1) rfl (by omega) _ _ _ hH1 hX9 hP hD hS (lv_sub hl [0, 2, 3, 4, 5] rfl))
                                exact W.widen (by omega) (by omega) (lp36 _ 0 rfl (Nat.zero_le _) _ _ _ hH1 hX9 hP hD hS hl)
                          exact W.widen (by omega) (by omega) (lp31 _ 0 rfl (Nat.zero_le _) _ _ _ hH1 hX9 hP hD hS hl)
                        · refine lv_iconst (v := iI 0) hx hb dX1_digest_44 rfl ?_
                          refine lv_istore_n (lv' := [(2, .int (iI 0)), (1, .int (iI ((k : Nat) : Int))), (0, .ref (ρ (0, 0, 0)))]) hx hb dX1_digest_45 rfl hl (by decide) rfl (fun ls hl => ?_)
                          refine lv_iload_n hx hb dX1_digest_46 rfl (lv_at hl 0 rfl) ?_
                          refine lv_iconst (v := iI 5) hx hb dX1_digest_47 rfl ?_
                          refine z_cgt (tgt := 68) hx hb dX1_digest_48 (by decide) (by omega) (fun c77 => ?_) (fun c77 => ?_)
                          · omega
                          · refine lv_aload_n hx hb dX1_digest_51 rfl (lv_at hl 2 rfl) ?_
                            refine lv_aload_n hx hb dX1_digest_52 rfl (lv_at hl 2 rfl) ?_
                            refine lv_iload_n hx hb dX1_digest_53 rfl (lv_at hl 1 rfl) ?_
                            refine lv_iload_n hx hb dX1_digest_54 rfl (lv_at hl 0 rfl) ?_
                            obtain ⟨sm, hxx⟩ := id hH1.2.2.1.1
                            refine z_go (122 + 60 * k) (1408 + 800 * k) (z_runV (As := [.int (iI ((k : Nat) : Int)), .int (iI 0)]) (rest := [.ref (ρ (0, 0, 0))]) hC hml hl.1 (m_X1_ofAlgebraNow_0 hE H29 (hO.ext (zS_F hS) hMo) ρ σ k hH1 (by omega)) (lw_V q368 q370 qs7 q62 q371) rfl nd_X1_ofAlgebraNow rfl (z_rv hC (ci := 0) rfl hxx rfl) rfl (Nat.le_of_ble_eq_true rfl) ⟨Nat.le_of_ble_eq_true rfl, Nat.le_of_ble_eq_true rfl⟩ ⟨zfit (k := 0) (z := 3800) rfl rfl (by omega), zfit (k := 0) (z := 50000) rfl rfl (by omega)⟩ dX1_digest_55) ⟨zad (k := 0) rfl (by omega), zad (k := 0) rfl (by omega)⟩ hS (fun _ z => z.elim) (fun r H78 locs hp hF hS1 => ?_)
                            obtain ⟨_, rfl, rfl⟩ := hp
                            have hP := zpk hP hF
                            have hP : va_P G.1 zCl ([]) H78 := hP
                            have hD : va_D (zA (FC G ρ σ) H0) ([]) := hD
                            have hH1 : HC G s0 ρ σ H78 := hH1.ext0 hE hF
                            have hX9 : zAt G (ρ (0, 0, 0)) (zOb 0 [.int (iI (St_p σ)), .ref (ρ (1, 0, 0)), .ref (ρ (3, 0, 0)), .ref (ρ (5, 0, 0)), .int (iI (St_kn σ : Int)), .long (lI (dgI (dgA σ) (dgM (myV σ) 58236 8) k))]) H78 := hX9.ext0 hF
                            have hS := hS1
                            have hX0 := hX9
                            obtain ⟨sm, hxx⟩ := id hH1.2.2.1.1
                            refine z_go (122 + 60 * k) (1408 + 800 * k) (z_runV (As := [.int (iI (oaV σ k 0))]) (rest := []) hC hml hl.1 (m_X1_add hE H78 (hO.ext (zS_F hS) hMo) ρ σ (dgI (dgA σ) (dgM (myV σ) 58236 8) k) (oaV σ k 0) hH1 hX0) (lw_V q363 q365 qs6 q62 q366) rfl nd_X1_add rfl (z_rv hC (ci := 0) rfl hxx rfl) rfl (Nat.le_of_ble_eq_true rfl) ⟨Nat.le_of_ble_eq_true rfl, Nat.le_of_ble_eq_true rfl⟩ ⟨zfit (k := 0) (z := 3800) rfl rfl (by omega), zfit (k := 0) (z := 50000) rfl rfl (by omega)⟩ dX1_digest_58) ⟨zad (k := 0) rfl (by omega), zad (k := 0) rfl (by omega)⟩ hS (fun z hz => Or.inl (hz ▸ FC.in hE hh.sep (dom0 0 (by omega)) (by simp))) (fun r H79 locs hp hF hS1 => ?_)
                            obtain ⟨_, rfl, rfl, hX9⟩ := hp
                            have hP : va_P G.1 zCl [] H79 := va_nil
                            have hD : va_D (zA (FC G ρ σ) H0) [] := va_nilD
                            have hP : va_P G.1 zCl ([]) H79 := hP
                            have hD : va_D (zA (FC G ρ σ) H0) ([]) := hD
                            have hH1 : HC G s0 ρ σ H79 := HC.kn hE hH1 hF hX9
                            have hS := hS1
                            refine lv_pop2_2 hx hb dX1_digest_61 rfl ?_
                            refine z_iinc (z := 1) (lv' := [(2, .int (iI 1)), (1, .int (iI ((k : Nat) : Int))), (0, .ref (ρ (0, 0, 0)))]) hx hb dX1_digest_62 hl (k := 0) rfl (by omega) (by decide) rfl (fun ls hl => ?_)
                            refine lv_goto (tgt := 46) hx hb dX1_digest_65 (by decide) ?_
                            refine lv_iload_n hx hb dX1_digest_46 rfl (lv_at hl 0 rfl) ?_
                            refine lv_iconst (v := iI 5) hx hb dX1_digest_47 rfl ?_
                            refine z_cgt (tgt := 68) hx hb dX1_digest_48 (by decide) (by omega) (fun c80 => ?_) (fun c80 => ?_)
                            · omega
                            · refine lv_aload_n hx hb dX1_digest_51 rfl (lv_at hl 2 rfl) ?_
                              refine lv_aload_n hx hb dX1_digest_52 rfl (lv_at hl 2 rfl) ?_
                              refine lv_iload_n hx hb dX1_digest_53 rfl (lv_at hl 1 rfl) ?_
                              refine lv_iload_n hx hb dX1_digest_54 rfl (lv_at hl 0 rfl) ?_
                              obtain ⟨sm, hxx⟩ := id hH1.2.2.1.1
                              refine z_go (122 + 60 * k) (1408 + 800 * k) (z_runV (As := [.int (iI ((k : Nat) : Int)), .int (iI 1)]) (rest := [.ref (ρ (0, 0, 0))]) hC hml hl.1 (m_X1_ofAlgebraNow_1 hE H79 (hO.ext (zS_F hS) hMo) ρ σ k hH1 (by omega)) (lw_V q368 q370 qs7 q62 q371) rfl nd_X1_ofAlgebraNow rfl (z_rv hC (ci := 0) rfl hxx rfl) rfl (Nat.le_of_ble_eq_true rfl) ⟨Nat.le_of_ble_eq_true rfl, Nat.le_of_ble_eq_true rfl⟩ ⟨zfit (k := 0) (z := 3800) rfl rfl (by omega), zfit (k := 0) (z := 50000) rfl rfl (by omega)⟩ dX1_digest_55) ⟨zad (k := 0) rfl (by omega), zad (k := 0) rfl (by omega)⟩ hS (fun _ z => z.elim) (fun r H81 locs hp hF hS1 => ?_)
                              obtain ⟨_, rfl, rfl⟩ := hp
                              have hP := zpk hP hF
                              have hP : va_P G.1 zCl ([]) H81 := hP
                              have hD : va_D (zA (FC G ρ σ) H0) ([]) := hD
                              have hH1 : HC G s0 ρ σ H81 := hH1.ext0 hE hF
                              have hX9 : zAt G (ρ (0, 0, 0)) (zOb 0 [.int (iI (St_p σ)), .ref (ρ (1, 0, 0)), .ref (ρ (3, 0, 0)), .ref (ρ (5, 0, 0)), .int (iI (St_kn σ : Int)), .long (lI ((dgI (dgA σ) (dgM (myV σ) 58236 8) k) * 31 + wz (oaV σ k 0)))]) H81 := hX9.ext0 hF
                              have hS := hS1
                              have hX0 := hX9
                              obtain ⟨sm, hxx⟩ := id hH1.2.2.1.1
                              refine z_go (122 + 60 * k) (1408 + 800 * k) (z_runV (As := [.int (iI (oaV σ k 1))]) (rest := []) hC hml hl.1 (m_X1_add hE H81 (hO.ext (zS_F hS) hMo) ρ σ ((dgI (dgA σ) (dgM (myV σ) 58236 8) k) * 31 + wz (oaV σ k 0)) (oaV σ k 1) hH1 hX0) (lw_V q363 q365 qs6 q62 q366) rfl nd_X1_add rfl (z_rv hC (ci := 0) rfl hxx rfl) rfl (Nat.le_of_ble_eq_true rfl) ⟨Nat.le_of_ble_eq_true rfl, Nat.le_of_ble_eq_true rfl⟩ ⟨zfit (k := 0) (z := 3800) rfl rfl (by omega), zfit (k := 0) (z := 50000) rfl rfl (by omega)⟩ dX1_digest_58) ⟨zad (k := 0) rfl (by omega), zad (k := 0) rfl (by omega)⟩ hS (fun z hz => Or.inl (hz ▸ FC.in hE hh.sep (dom0 0 (by omega)) (by simp))) (fun r H82 locs hp hF hS1 => ?_)
                              obtain ⟨_, rfl, rfl, hX9⟩ := hp
                              have hP : va_P G.1 zCl [] H82 := va_nil
                              have hD : va_D (zA (FC G ρ σ) H0) [] := va_nilD
                              have hP : va_P G.1 zCl ([]) H82 := hP
                              have hD : va_D (zA (FC G ρ σ) H0) ([]) := hD
                              have hH1 : HC G s0 ρ σ H82 := HC.kn hE hH1 hF hX9
                              have hS := hS1
                              refine lv_pop2_2 hx hb dX1_digest_61 rfl ?_
                              refine z_iinc (z := 2) (lv' := [(2, .int (iI 2)), (1, .int (iI ((k : Nat) : Int))), (0, .ref (ρ (0, 0, 0)))]) hx hb dX1_digest_62 hl (k := 0) rfl (by omega) (by decide) rfl (fun ls hl => ?_)
                              refine lv_goto (tgt := 46) hx hb dX1_digest_65 (by decide) ?_
                              refine lv_iload_n hx hb dX1_digest_46 rfl (lv_at hl 0 rfl) ?_
                              refine lv_iconst (v := iI 5) hx hb dX1_digest_47 rfl ?_
                              refine z_cgt (tgt := 68) hx hb dX1_digest_48 (by decide) (by omega) (fun c83 => ?_) (fun c83 => ?_)
                              · omega
                              · refine lv_aload_n hx hb dX1_digest_51 rfl (lv_at hl 2 rfl) ?_
                                refine lv_aload_n hx hb dX1_digest_52 rfl (lv_at hl 2 rfl) ?_
                                refine lv_iload_n hx hb dX1_digest_53 rfl (lv_at hl 1 rfl) ?_
                                refine lv_iload_n hx hb dX1_digest_54 rfl (lv_at hl 0 rfl) ?_
                                obtain ⟨sm, hxx⟩ := id hH1.2.2.1.1
                                refine z_go (122 + 60 * k) (1408 + 800 * k) (z_runV (As := [.int (iI ((k : Nat) : Int)), .int (iI 2)]) (rest := [.ref (ρ (0, 0, 0))]) hC hml hl.1 (m_X1_ofAlgebraNow_2 hE H82 (hO.ext (zS_F hS) hMo) ρ σ k hH1 (by omega)) (lw_V q368 q370 qs7 q62 q371) rfl nd_X1_ofAlgebraNow rfl (z_rv hC (ci := 0) rfl hxx rfl) rfl (Nat.le_of_ble_eq_true rfl) ⟨Nat.le_of_ble_eq_true rfl, Nat.le_of_ble_eq_true rfl⟩ ⟨zfit (k := 0) (z := 3800) rfl rfl (by omega), zfit (k := 0) (z := 50000) rfl rfl (by omega)⟩ dX1_digest_55) ⟨zad (k := 0) rfl (by omega), zad (k := 0) rfl (by omega)⟩ hS (fun _ z => z.elim) (fun r H84 locs hp hF hS1 => ?_)
                                obtain ⟨_, rfl, rfl⟩ := hp
                                have hP := zpk hP hF
                                have hP : va_P G.1 zCl ([]) H84 := hP
                                have hD : va_D (zA (FC G ρ σ) H0) ([]) := hD
                                have hH1 : HC G s0 ρ σ H84 := hH1.ext0 hE hF
                                have hX9 : zAt G (ρ (0, 0, 0)) (zOb 0 [.int (iI (St_p σ)), .ref (ρ (1, 0, 0)), .ref (ρ (3, 0, 0)), .ref (ρ (5, 0, 0)), .int (iI (St_kn σ : Int)), .long (lI (((dgI (dgA σ) (dgM (myV σ) 58236 8) k) * 31 + wz (oaV σ k 0)) * 31 + wz (oaV σ k 1)))]) H84 := hX9.ext0 hF
                                have hS := hS1
                                have hX0 := hX9
                                obtain ⟨sm, hxx⟩ := id hH1.2.2.1.1
                                refine z_go (122 + 60 * k) (1408 + 800 * k) (z_runV (As := [.int (iI (oaV σ k 2))]) (rest := []) hC hml hl.1 (m_X1_add hE H84 (hO.ext (zS_F hS) hMo) ρ σ (((dgI (dgA σ) (dgM (myV σ) 58236 8) k) * 31 + wz (oaV σ k 0)) * 31 + wz (oaV σ k 1)) (oaV σ k 2) hH1 hX0) (lw_V q363 q365 qs6 q62 q366) rfl nd_X1_add rfl (z_rv hC (ci := 0) rfl hxx rfl) rfl (Nat.le_of_ble_eq_true rfl) ⟨Nat.le_of_ble_eq_true rfl, Nat.le_of_ble_eq_true rfl⟩ ⟨zfit (k := 0) (z := 3800) rfl rfl (by omega), zfit (k := 0) (z := 50000) rfl rfl (by omega)⟩ dX1_digest_58) ⟨zad (k := 0) rfl (by omega), zad (k := 0) rfl (by omega)⟩ hS (fun z hz => Or.inl (hz ▸ FC.in hE hh.sep (dom0 0 (by omega)) (by simp))) (fun r H85 locs hp hF hS1 => ?_)
                                obtain ⟨_, rfl, rfl, hX9⟩ := hp
                                have hP : va_P G.1 zCl [] H85 := va_nil
                                have hD : va_D (zA (FC G ρ σ) H0) [] := va_nilD
                                have hP : va_P G.1 zCl ([]) H85 := hP
                                have hD : va_D (zA (FC G ρ σ) H0) ([]) := hD
                                have hH1 : HC G s0 ρ σ H85 := HC.kn hE hH1 hF hX9
                                have hS := hS1
                                refine lv_pop2_2 hx hb dX1_digest_61 rfl ?_
                                refine z_iinc (z := 3) (lv' := [(2, .int (iI 3)), (1, .int (iI ((k : Nat) : Int))), (0, .ref (ρ (0, 0, 0)))]) hx hb dX1_digest_62 hl (k := 0) rfl (by omega) (by decide) rfl (fun ls hl => ?_)
                                refine lv_goto (tgt := 46) hx hb dX1_digest_65 (by decide) ?_
                                refine lv_iload_n hx hb dX1_digest_46 rfl (lv_at hl 0 rfl) ?_
                                refine lv_iconst (v := iI 5) hx hb dX1_digest_47 rfl ?_
                                refine z_cgt (tgt := 68) hx hb dX1_digest_48 (by decide) (by omega) (fun c86 => ?_) (fun c86 => ?_)
                                · omega
                                · refine lv_aload_n hx hb dX1_digest_51 rfl (lv_at hl 2 rfl) ?_
                                  refine lv_aload_n hx hb dX1_digest_52 rfl (lv_at hl 2 rfl) ?_
                                  refine lv_iload_n hx hb dX1_digest_53 rfl (lv_at hl 1 rfl) ?_
                                  refine lv_iload_n hx hb dX1_digest_54 rfl (lv_at hl 0 rfl) ?_
                                  obtain ⟨sm, hxx⟩ := id hH1.2.2.1.1
                                  refine z_go ((122 + 60 * k) + 1) ((1408 + 800 * k) + 4) (z_runV (As := [.int (iI ((k : Nat) : Int)), .int (iI 3)]) (rest := [.ref (ρ (0, 0, 0))]) hC hml hl.1 (m_X1_ofAlgebraNow_3 hE H85 (hO.ext (zS_F hS) hMo) ρ σ k hH1 (by omega)) (lw_V q368 q370 qs7 q62 q371) rfl nd_X1_ofAlgebraNow rfl (z_rv hC (ci := 0) rfl hxx rfl) rfl (Nat.le_of_ble_eq_true rfl) ⟨Nat.le_of_ble_eq_true rfl, Nat.le_of_ble_eq_true rfl⟩ ⟨zfit (k := 1) (z := 3800) rfl rfl (by omega), zfit (k := 4) (z := 50000) rfl rfl (by omega)⟩ dX1_digest_55) ⟨zad (k := 1) rfl (by omega), zad (k := 4) rfl (by omega)⟩ hS (fun _ z => z.elim) (fun r H87 locs hp hF hS1 => ?_)
                                  obtain ⟨_, rfl, rfl⟩ := hp
                                  have hP := zpk hP hF
                                  have hP : va_P G.1 zCl ([]) H87 := hP
                                  have hD : va_D (zA (FC G ρ σ) H0) ([]) := hD
                                  have hH1 : HC G s0 ρ σ H87 := hH1.ext0 hE hF
                                  have hX9 : zAt G (ρ (0, 0, 0)) (zOb 0 [.int (iI (St_p σ)), .ref (ρ (1, 0, 0)), .ref (ρ (3, 0, 0)), .ref (ρ (5, 0, 0)), .int (iI (St_kn σ : Int)), .long (lI ((((dgI (dgA σ) (dgM (myV σ) 58236 8) k) * 31 + wz (oaV σ k 0)) * 31 + wz (oaV σ k 1)) * 31 + wz (oaV σ k 2)))]) H87 := hX9.ext0 hF
                                  have hS := hS1
                                  have hX0 := hX9
                                  obtain ⟨sm, hxx⟩ := id hH1.2.2.1.1
                                  refine z_go ((122 + 60 * k) + 1) ((1408 + 800 * k) + 4) (z_runV (As := [.int (iI (oaV σ k 3))]) (rest := []) hC hml hl.1 (m_X1_add hE H87 (hO.ext (zS_F hS) hMo) ρ σ ((((dgI (dgA σ) (dgM (myV σ) 58236 8) k) * 31 + wz (oaV σ k 0)) * 31 + wz (oaV σ k 1)) * 31 + wz (oaV σ k 2)) (oaV σ k 3) hH1 hX0) (lw_V q363 q365 qs6 q62 q366) rfl nd_X1_add rfl (z_rv hC (ci := 0) rfl hxx rfl) rfl (Nat.le_of_ble_eq_true rfl) ⟨Nat.le_of_ble_eq_true rfl, Nat.le_of_ble_eq_true rfl⟩ ⟨zfit (k := 0) (z := 3800) rfl rfl (by omega), zfit (k := 0) (z := 50000) rfl rfl (by omega)⟩ dX1_digest_58) ⟨zad (k := 0) rfl (by omega), zad (k := 0) rfl (by omega)⟩ hS (fun z hz => Or.inl (hz ▸ FC.in hE hh.sep (dom0 0 (by omega)) (by simp))) (fun r H88 locs hp hF hS1 => ?_)
                                  obtain ⟨_, rfl, rfl, hX9⟩ := hp
                                  have hP : va_P G.1 zCl [] H88 := va_nil
                                  have hD : va_D (zA (FC G ρ σ) H0) [] := va_nilD
                                  have hP : va_P G.1 zCl ([]) H88 := hP
                                  have hD : va_D (zA (FC G ρ σ) H0) ([]) := hD
                                  have hH1 : HC G s0 ρ σ H88 := HC.kn hE hH1 hF hX9
                                  have hS := hS1
                                  refine lv_pop2_2 hx hb dX1_digest_61 rfl ?_
                                  refine z_iinc (z := 4) (lv' := [(2, .int (iI 4)), (1, .int (iI ((k : Nat) : Int))), (0, .ref (ρ (0, 0, 0)))]) hx hb dX1_digest_62 hl (k := 0) rfl (by omega) (by decide) rfl (fun ls hl => ?_)
                                  refine lv_goto (tgt := 46) hx hb dX1_digest_65 (by decide) ?_
                                  refine lv_iload_n hx hb dX1_digest_46 rfl (lv_at hl 0 rfl) ?_
                                  refine lv_iconst (v := iI 5) hx hb dX1_digest_47 rfl ?_
                                  refine z_cgt (tgt := 68) hx hb dX1_digest_48 (by decide) (by omega) (fun c89 => ?_) (fun c89 => ?_)
                                  · omega
                                  · refine lv_aload_n hx hb dX1_digest_51 rfl (lv_at hl 2 rfl) ?_
                                    refine lv_aload_n hx hb dX1_digest_52 rfl (lv_at hl 2 rfl) ?_
                                    refine lv_iload_n hx hb dX1_digest_53 rfl (lv_at hl 1 rfl) ?_
                                    refine lv_iload_n hx hb dX1_digest_54 rfl (lv_at hl 0 rfl) ?_
                                    obtain ⟨sm, hxx⟩ := id hH1.2.2.1.1
                                    refine z_go ((122 + 60 * k) + 1) ((1408 + 800 * k) + 4) (z_runV (As := [.int (iI ((k : Nat) : Int)), .int (iI 4)]) (rest := [.ref (ρ (0, 0, 0))]) hC hml hl.1 (m_X1_ofAlgebraNow_4 hE H88 (hO.ext (zS_F hS) hMo) ρ σ k hH1 (by omega)) (lw_V q368 q370 qs7 q62 q371) rfl nd_X1_ofAlgebraNow rfl (z_rv hC (ci := 0) rfl hxx rfl) rfl (Nat.le_of_ble_eq_true rfl) ⟨Nat.le_of_ble_eq_true rfl, Nat.le_of_ble_eq_true rfl⟩ ⟨zfit (k := 0) (z := 3800) rfl rfl (by omega), zfit (k := 0) (z := 50000) rfl rfl (by omega)⟩ dX1_digest_55) ⟨zad (k := 0) rfl (by omega), zad (k := 0) rfl (by omega)⟩ hS (fun _ z => z.elim) (fun r H90 locs hp hF hS1 => ?_)
                                    obtain ⟨_, rfl, rfl⟩ := hp
                                    have hP := zpk hP hF
                                    have hP : va_P G.1 zCl ([]) H90 := hP
                                    have hD : va_D (zA (FC G ρ σ) H0) ([]) := hD
                                    have hH1 : HC G s0 ρ σ H90 := hH1.ext0 hE hF
                                    have hX9 : zAt G (ρ (0, 0, 0)) (zOb 0 [.int (iI (St_p σ)), .ref (ρ (1, 0, 0)), .ref (ρ (3, 0, 0)), .ref (ρ (5, 0, 0)), .int (iI (St_kn σ : Int)), .long (lI (((((dgI (dgA σ) (dgM (myV σ) 58236 8) k) * 31 + wz (oaV σ k 0)) * 31 + wz (oaV σ k 1)) * 31 + wz (oaV σ k 2)) * 31 + wz (oaV σ k 3)))]) H90 := hX9.ext0 hF
                                    have hS := hS1
                                    have hX0 := hX9
                                    obtain ⟨sm, hxx⟩ := id hH1.2.2.1.1
                                    refine z_go ((122 + 60 * k) + 1) ((1408 + 800 * k) + 4) (z_runV (As := [.int (iI (oaV σ k 4))]) (rest := []) hC hml hl.1 (m_X1_add hE H90 (hO.ext (zS_F hS) hMo) ρ σ (((((dgI (dgA σ) (dgM (myV σ) 58236 8) k) * 31 + wz (oaV σ k 0)) * 31 + wz (oaV σ k 1)) * 31 + wz (oaV σ k 2)) * 31 + wz (oaV σ k 3)) (oaV σ k 4) hH1 hX0) (lw_V q363 q365 qs6 q62 q366) rfl nd_X1_add rfl (z_rv hC (ci := 0) rfl hxx rfl) rfl (Nat.le_of_ble_eq_true rfl) ⟨Nat.le_of_ble_eq_true rfl, Nat.le_of_ble_eq_true rfl⟩ ⟨zfit (k := 0) (z := 3800) rfl rfl (by omega), zfit (k := 0) (z := 50000) rfl rfl (by omega)⟩ dX1_digest_58) ⟨zad (k := 0) rfl (by omega), zad (k := 0) rfl (by omega)⟩ hS (fun z hz => Or.inl (hz ▸ FC.in hE hh.sep (dom0 0 (by omega)) (by simp))) (fun r H91 locs hp hF hS1 => ?_)
                                    obtain ⟨_, rfl, rfl, hX9⟩ := hp
                                    have hP : va_P G.1 zCl [] H91 := va_nil
                                    have hD : va_D (zA (FC G ρ σ) H0) [] := va_nilD
                                    have hP : va_P G.1 zCl ([]) H91 := hP
                                    have hD : va_D (zA (FC G ρ σ) H0) ([]) := hD
                                    have hH1 : HC G s0 ρ σ H91 := HC.kn hE hH1 hF hX9
                                    have hS := hS1
                                    refine lv_pop2_2 hx hb dX1_digest_61 rfl ?_
                                    refine z_iinc (z := 5) (lv' := [(2, .int (iI 5)), (1, .int (iI ((k : Nat) : Int))), (0, .ref (ρ (0, 0, 0)))]) hx hb dX1_digest_62 hl (k := 0) rfl (by omega) (by decide) rfl (fun ls hl => ?_)
                                    refine lv_goto (tgt := 46) hx hb dX1_digest_65 (by decide) ?_
                                    refine lv_iload_n hx hb dX1_digest_46 rfl (lv_at hl 0 rfl) ?_
                                    refine lv_iconst (v := iI 5) hx hb dX1_digest_47 rfl ?_
                                    refine z_cgt (tgt := 68) hx hb dX1_digest_48 (by decide) (by omega) (fun c92 => ?_) (fun c92 => ?_)
                                    · omega
                                    · refine lv_aload_n hx hb dX1_digest_51 rfl (lv_at hl 2 rfl) ?_
                                      refine lv_aload_n hx hb dX1_digest_52 rfl (lv_at hl 2 rfl) ?_
                                      refine lv_iload_n hx hb dX1_digest_53 rfl (lv_at hl 1 rfl) ?_
                                      refine lv_iload_n hx hb dX1_digest_54 rfl (lv_at hl 0 rfl) ?_
                                      obtain ⟨sm, hxx⟩ := id hH1.2.2.1.1
                                      refine z_go ((122 + 60 * k) + 1) ((1408 + 800 * k) + 4) (z_runV (As := [.int (iI ((k : Nat) : Int)), .int (iI 5)]) (rest := [.ref (ρ (0, 0, 0))]) hC hml hl.1 (m_X1_ofAlgebraNow_5 hE H91 (hO.ext (zS_F hS) hMo) ρ σ k hH1 (by omega)) (lw_V q368 q370 qs7 q62 q371) rfl nd_X1_ofAlgebraNow rfl (z_rv hC (ci := 0) rfl hxx rfl) rfl (Nat.le_of_ble_eq_true rfl) ⟨Nat.le_of_ble_eq_true rfl, Nat.le_of_ble_eq_true rfl⟩ ⟨zfit (k := 0) (z := 3800) rfl rfl (by omega), zfit (k := 0) (z := 50000) rfl rfl (by omega)⟩ dX1_digest_55) ⟨zad (k := 0) rfl (by omega), zad (k := 0) rfl (by omega)⟩ hS (fun _ z => z.elim) (fun r H93 locs hp hF hS1 => ?_)
                                      obtain ⟨_, rfl, rfl⟩ := hp
                                      have hP := zpk hP hF
                                      have hP : va_P G.1 zCl ([]) H93 := hP
                                      have hD : va_D (zA (FC G ρ σ) H0) ([]) := hD
                                      have hH1 : HC G s0 ρ σ H93 := hH1.ext0 hE hF
                                      have hX9 : zAt G (ρ (0, 0, 0)) (zOb 0 [.int (iI (St_p σ)), .ref (ρ (1, 0, 0)), .ref (ρ (3, 0, 0)), .ref (ρ (5, 0, 0)), .int (iI (St_kn σ : Int)), .long (lI ((((((dgI (dgA σ) (dgM (myV σ) 58236 8) k) * 31 + wz (oaV σ k 0)) * 31 + wz (oaV σ k 1)) * 31 + wz (oaV σ k 2)) * 31 + wz (oaV σ k 3)) * 31 + wz (oaV σ k 4)))]) H93 := hX9.ext0 hF
                                      have hS := hS1
                                      have hX0 := hX9
                                      obtain ⟨sm, hxx⟩ := id hH1.2.2.1.1
                                      refine z_go ((122 + 60 * k) + 1) ((1408 + 800 * k) + 4) (z_runV (As := [.int (iI (oaV σ k 5))]) (rest := []) hC hml hl.1 (m_X1_add hE H93 (hO.ext (zS_F hS) hMo) ρ σ ((((((dgI (dgA σ) (dgM (myV σ) 58236 8) k) * 31 + wz (oaV σ k 0)) * 31 + wz (oaV σ k 1)) * 31 + wz (oaV σ k 2)) * 31 + wz (oaV σ k 3)) * 31 + wz (oaV σ k 4)) (oaV σ k 5) hH1 hX0) (lw_V q363 q365 qs6 q62 q366) rfl nd_X1_add rfl (z_rv hC (ci := 0) rfl hxx rfl) rfl (Nat.le_of_ble_eq_true rfl) ⟨Nat.le_of_ble_eq_true rfl, Nat.le_of_ble_eq_true rfl⟩ ⟨zfit (k := 0) (z := 3800) rfl rfl (by omega), zfit (k := 0) (z := 50000) rfl rfl (by omega)⟩ dX1_digest_58) ⟨zad (k := 0) rfl (by omega), zad (k := 0) rfl (by omega)⟩ hS (fun z hz => Or.inl (hz ▸ FC.in hE hh.sep (dom0 0 (by omega)) (by simp))) (fun r H94 locs hp hF hS1 => ?_)
                                      obtain ⟨_, rfl, rfl, hX9⟩ := hp
                                      have hP : va_P G.1 zCl [] H94 := va_nil
                                      have hD : va_D (zA (FC G ρ σ) H0) [] := va_nilD
                                      have hP : va_P G.1 zCl ([]) H94 := hP
                                      have hD : va_D (zA (FC G ρ σ) H0) ([]) := hD
                                      have hH1 : HC G s0 ρ σ H94 := HC.kn hE hH1 hF hX9
                                      have hS := hS1
                                      refine lv_pop2_2 hx hb dX1_digest_61 rfl ?_
                                      refine z_iinc (z := 6) (lv' := [(2, .int (iI 6)), (1, .int (iI ((k : Nat) : Int))), (0, .ref (ρ (0, 0, 0)))]) hx hb dX1_digest_62 hl (k := 0) rfl (by omega) (by decide) rfl (fun ls hl => ?_)
                                      refine lv_goto (tgt := 46) hx hb dX1_digest_65 (by decide) ?_
                                      refine lv_iload_n hx hb dX1_digest_46 rfl (lv_at hl 0 rfl) ?_
                                      refine lv_iconst (v := iI 5) hx hb dX1_digest_47 rfl ?_
                                      refine z_cgt (tgt := 68) hx hb dX1_digest_48 (by decide) (by omega) (fun c95 => ?_) (fun c95 => ?_)
                                      · have hX9 : zAt G (ρ (0, 0, 0)) (zOb 0 [.int (iI (St_p σ)), .ref (ρ (1, 0, 0)), .ref (ρ (3, 0, 0)), .ref (ρ (5, 0, 0)), .int (iI (St_kn σ : Int)), .long (lI (dgM (oaV σ k) (dgI (dgA σ) (dgM (myV σ) 58236 8) k) 6))]) H94 := hX9
                                        refine lv_iconst (v := iI 0) hx hb dX1_digest_68 rfl ?_
                                        refine lv_istore_n (lv' := [(2, .int (iI 0)), (1, .int (iI ((k : Nat) : Int))), (0, .ref (ρ (0, 0, 0)))]) hx hb dX1_digest_69 rfl hl (by decide) rfl (fun ls hl => ?_)
                                        refine lv_iload_n hx hb dX1_digest_70 rfl (lv_at hl 0 rfl) ?_
                                        refine lv_iconst (v := iI 4) hx hb dX1_digest_71 rfl ?_
                                        refine z_cge (tgt := 101) hx hb dX1_digest_72 (by decide) (by omega) (fun c96 => ?_) (fun c96 => ?_)
                                        · omega
                                        · obtain ⟨sm, hxx⟩ := id hH1.2.2.1.1
                                          refine lv_aload_n hx hb dX1_digest_75 rfl (lv_at hl 2 rfl) ?_
                                          refine lv_aload_n hx hb dX1_digest_76 rfl (lv_at hl 2 rfl) ?_
                                          refine z_get hC (k := 1) rfl in_X1 hxx (by decide) q152 (fun _ h => h) rfl dX1_digest_77 ?_
                                          refine lv_iload_n hx hb dX1_digest_80 rfl (lv_at hl 1 rfl) ?_
                                          obtain ⟨mda, hLa⟩ := id hH1.2.2.1.2.1
                                          refine z_go ((122 + 60 * k) + 1) ((1408 + 800 * k) + 4) (z_runV (As := [.int (iI ((k : Nat) : Int))]) (rest := [.ref (ρ (0, 0, 0))]) hC hml hl.1 (m_J2_get hE H94 (hO.ext (zS_F hS) hMo) (ρ (1, 0, 0)) (St_na σ) (fun k => ρ (6, k, 0)) (ρ (2, 0, 0)) mda k hLa (by omega)) (lw_V q372 q373 q374 q65 q375) rfl nd_J2_get rfl (z_rv hC (ci := 8) rfl hLa.1 rfl) rfl (Nat.le_of_ble_eq_true rfl) ⟨Nat.le_of_ble_eq_true rfl, Nat.le_of_ble_eq_true rfl⟩ ⟨zfit (k := 0) (z := 3800) rfl rfl (by omega), zfit (k := 0) (z := 50000) rfl rfl (by omega)⟩ dX1_digest_81) ⟨zad (k := 0) rfl (by omega), zad (k := 0) rfl (by omega)⟩ hS (fun _ z => z.elim) (fun r H97 locs hp hF hS1 => ?_)
                                          obtain ⟨_, rfl, rfl⟩ := hp
                                          have hP := zpk hP hF
                                          have hP : va_P G.1 zCl ([]) H97 := hP
                                          have hD : va_D (zA (FC G ρ σ) H0) ([]) := hD
                                          have hH1 : HC G s0 ρ σ H97 := hH1.ext0 hE hF
                                          have hX9 : zAt G (ρ (0, 0, 0)) (zOb 0 [.int (iI (St_p σ)), .ref (ρ (1, 0, 0)), .ref (ρ (3, 0, 0)), .ref (ρ (5, 0, 0)), .int (iI (St_kn σ : Int)), .long (lI (dgM (oaV σ k) (dgI (dgA σ) (dgM (myV σ) 58236 8) k) 6))]) H97 := hX9.ext0 hF
                                          have hS := hS1
                                          have hkk := hH1.2.2.2.1 k (by omega)
                                          have hAk := hH1.ag (k := k) (by omega)
                                          obtain ⟨hn16k, -⟩ := hAk.n
                                          have halk := hal k (by omega)
                                          obtain ⟨sm, hxx⟩ := id hH1.2.2.1.1
                                          refine z_cast hC (ci := 4) rfl hkk.1 rfl q296 dX1_digest_84 ?_
                                          refine lv_iload_n hx hb dX1_digest_87 rfl (lv_at hl 0 rfl) ?_
                                          refine z_go ((122 + 60 * k) + 1) ((1408 + 800 * k) + 4) (z_runV (As := [.int (iI 0)]) (rest := [.ref (ρ (0, 0, 0))]) hC hml hl.1 (m_X5_breaks hE H97 (hO.ext (zS_F hS) hMo) (ρ (0, 0, 0)) (ρ (6, k, 0)) (St_p σ) (St_d σ k) (St_n σ k) (St_kd σ k) (St_dv σ k) (St_sg σ k) 0 (hH1.ag (k := k) (by omega)) (by decide)) (lw_V q406 q407 q408 q74 q409) rfl nd_X5_breaks rfl (z_rv hC (ci := 4) rfl hkk.1 rfl) rfl (Nat.le_of_ble_eq_true rfl) ⟨Nat.le_of_ble_eq_true rfl, Nat.le_of_ble_eq_true rfl⟩ ⟨zfit (k := 0) (z := 3800) rfl rfl (by omega), zfit (k := 0) (z := 50000) rfl rfl (by omega)⟩ dX1_digest_88) ⟨zad (k := 0) rfl (by omega), zad (k := 0) rfl (by omega)⟩ hS (fun _ z => z.elim) (fun r H98 locs hp hF hS1 => ?_)
                                          obtain ⟨_, rfl, rfl⟩ := hp
                                          have hP := zpk hP hF
                                          have hP : va_P G.1 zCl ([]) H98 := hP
                                          have hD : va_D (zA (FC G ρ σ) H0) ([]) := hD
                                          have hH1 : HC G s0 ρ σ H98 := hH1.ext0 hE hF
                                          have hX9 : zAt G (ρ (0, 0, 0)) (zOb 0 [.int (iI (St_p σ)), .ref (ρ (1, 0, 0)), .ref (ρ (3, 0, 0)), .ref (ρ (5, 0, 0)), .int (iI (St_kn σ : Int)), .long (lI (dgM (oaV σ k) (dgI (dgA σ) (dgM (myV σ) 58236 8) k) 6))]) H98 := hX9.ext0 hF
                                          have hS := hS1
                                          have hX0 := hX9
                                          obtain ⟨sm, hxx⟩ := id hH1.2.2.1.1
                                          refine z_go ((122 + 60 * k) + 1) ((1408 + 800 * k) + 4) (z_runV (As := [.int (iI (brV (St_p σ) (St_sg σ k) (St_n σ k) 0))]) (rest := []) hC hml hl.1 (m_X1_add hE H98 (hO.ext (zS_F hS) hMo) ρ σ (dgM (oaV σ k) (dgI (dgA σ) (dgM (myV σ) 58236 8) k) 6) (brV (St_p σ) (St_sg σ k) (St_n σ k) 0) hH1 hX0) (lw_V q363 q365 qs6 q62 q366) rfl nd_X1_add rfl (z_rv hC (ci := 0) rfl hxx rfl) rfl (Nat.le_of_ble_eq_true rfl) ⟨Nat.le_of_ble_eq_true rfl, Nat.le_of_ble_eq_true rfl⟩ ⟨zfit (k := 0) (z := 3800) rfl rfl (by omega), zfit (k := 0) (z := 50000) rfl rfl (by omega)⟩ dX1_digest_91) ⟨zad (k := 0) rfl (by omega), zad (k := 0) rfl (by omega)⟩ hS (fun z hz => Or.inl (hz ▸ FC.in hE hh.sep (dom0 0 (by omega)) (by simp))) (fun r H99 locs hp hF hS1 => ?_)
                                          obtain ⟨_, rfl, rfl, hX9⟩ := hp
                                          have hP : va_P G.1 zCl [] H99 := va_nil
                                          have hD : va_D (zA (FC G ρ σ) H0) [] := va_nilD
                                          have hP : va_P G.1 zCl ([]) H99 := hP
                                          have hD : va_D (zA (FC G ρ σ) H0) ([]) := hD
                                          have hH1 : HC G s0 ρ σ H99 := HC.kn hE hH1 hF hX9
                                          have hS := hS1
                                          refine lv_pop2_2 hx hb dX1_digest_94 rfl ?_
                                          refine z_iinc (z := 1) (lv' := [(2, .int (iI 1)), (1, .int (iI ((k : Nat) : Int))), (0, .ref (ρ (0, 0, 0)))]) hx hb dX1_digest_95 hl (k := 0) rfl (by omega) (by decide) rfl (fun ls hl => ?_)
                                          refine lv_goto (tgt := 70) hx hb dX1_digest_98 (by decide) ?_
                                          refine lv_iload_n hx hb dX1_digest_70 rfl (lv_at hl 0 rfl) ?_
                                          refine lv_iconst (v := iI 4) hx hb dX1_digest_71 rfl ?_
                                          refine z_cge (tgt := 101) hx hb dX1_digest_72 (by decide) (by omega) (fun c100 => ?_) (fun c100 => ?_)
                                          · omega
                                          · obtain ⟨sm, hxx⟩ := id hH1.2.2.1.1
                                            refine lv_aload_n hx hb dX1_digest_75 rfl (lv_at hl 2 rfl) ?_
                                            refine lv_aload_n hx hb dX1_digest_76 rfl (lv_at hl 2 rfl) ?_
                                            refine z_get hC (k := 1) rfl in_X1 hxx (by decide) q152 (fun _ h => h) rfl dX1_digest_77 ?_
                                            refine lv_iload_n hx hb dX1_digest_80 rfl (lv_at hl 1 rfl) ?_
                                            obtain ⟨mda, hLa⟩ := id hH1.2.2.1.2.1
                                            refine z_go ((122 + 60 * k) + 1) ((1408 + 800 * k) + 4) (z_runV (As := [.int (iI ((k : Nat) : Int))]) (rest := [.ref (ρ (0, 0, 0))]) hC hml hl.1 (m_J2_get hE H99 (hO.ext (zS_F hS) hMo) (ρ (1, 0, 0)) (St_na σ) (fun k => ρ (6, k, 0)) (ρ (2, 0, 0)) mda k hLa (by omega)) (lw_V q372 q373 q374 q65 q375) rfl nd_J2_get rfl (z_rv hC (ci := 8) rfl hLa.1 rfl) rfl (Nat.le_of_ble_eq_true rfl) ⟨Nat.le_of_ble_eq_true rfl, Nat.le_of_ble_eq_true rfl⟩ ⟨zfit (k := 0) (z := 3800) rfl rfl (by omega), zfit (k := 0) (z := 50000) rfl rfl (by omega)⟩ dX1_digest_81) ⟨zad (k := 0) rfl (by omega), zad (k := 0) rfl (by omega)⟩ hS (fun _ z => z.elim) (fun r H101 locs hp hF hS1 => ?_)
                                            obtain ⟨_, rfl, rfl⟩ := hp
                                            have hP := zpk hP hF
                                            have hP : va_P G.1 zCl ([]) H101 := hP
                                            have hD : va_D (zA (FC G ρ σ) H0) ([]) := hD
                                            have hH1 : HC G s0 ρ σ H101 := hH1.ext0 hE hF
                                            have hX9 : zAt G (ρ (0, 0, 0)) (zOb 0 [.int (iI (St_p σ)), .ref (ρ (1, 0, 0)), .ref (ρ (3, 0, 0)), .ref (ρ (5, 0, 0)), .int (iI (St_kn σ : Int)), .long (lI ((dgM (oaV σ k) (dgI (dgA σ) (dgM (myV σ) 58236 8) k) 6) * 31 + wz (brV (St_p σ) (St_sg σ k) (St_n σ k) 0)))]) H101 := hX9.ext0 hF
                                            have hS := hS1
                                            have hkk := hH1.2.2.2.1 k (by omega)
                                            have hAk := hH1.ag (k := k) (by omega)
                                            obtain ⟨hn16k, -⟩ := hAk.n
                                            have halk := hal k (by omega)
                                            obtain ⟨sm, hxx⟩ := id hH1.2.2.1.1
                                            refine z_cast hC (ci := 4) rfl hkk.1 rfl q296 dX1_digest_84 ?_
                                            refine lv_iload_n hx hb dX1_digest_87 rfl (lv_at hl 0 rfl) ?_
                                            refine z_go ((122 + 60 * k) + 1) ((1408 + 800 * k) + 4) (z_runV (As := [.int (iI 1)]) (rest := [.ref (ρ (0, 0, 0))]) hC hml hl.1 (m_X5_breaks hE H101 (hO.ext (zS_F hS) hMo) (ρ (0, 0, 0)) (ρ (6, k, 0)) (St_p σ) (St_d σ k) (St_n σ k) (St_kd σ k) (St_dv σ k) (St_sg σ k) 1 (hH1.ag (k := k) (by omega)) (by decide)) (lw_V q406 q407 q408 q74 q409) rfl nd_X5_breaks rfl (z_rv hC (ci := 4) rfl hkk.1 rfl) rfl (Nat.le_of_ble_eq_true rfl) ⟨Nat.le_of_ble_eq_true rfl, Nat.le_of_ble_eq_true rfl⟩ ⟨zfit (k := 0) (z := 3800) rfl rfl (by omega), zfit (k := 0) (z := 50000) rfl rfl (by omega)⟩ dX1_digest_88) ⟨zad (k := 0) rfl (by omega), zad (k := 0) rfl (by omega)⟩ hS (fun _ z => z.elim) (fun r H102 locs hp hF hS1 => ?_)
                                            obtain ⟨_, rfl, rfl⟩ := hp
                                            have hP := zpk hP hF
                                            have hP : va_P G.1 zCl ([]) H102 := hP
                                            have hD : va_D (zA (FC G ρ σ) H0) ([]) := hD
                                            have hH1 : HC G s0 ρ σ H102 := hH1.ext0 hE hF
                                            have hX9 : zAt G (ρ (0, 0, 0)) (zOb 0 [.int (iI (St_p σ)), .ref (ρ (1, 0, 0)), .ref (ρ (3, 0, 0)), .ref (ρ (5, 0, 0)), .int (iI (St_kn σ : Int)), .long (lI ((dgM (oaV σ k) (dgI (dgA σ) (dgM (myV σ) 58236 8) k) 6) * 31 + wz (brV (St_p σ) (St_sg σ k) (St_n σ k) 0)))]) H102 := hX9.ext0 hF
                                            have hS := hS1
                                            have hX0 := hX9
                                            obtain ⟨sm, hxx⟩ := id hH1.2.2.1.1
                                            refine z_go ((122 + 60 * k) + 1) ((1408 + 800 * k) + 4) (z_runV (As := [.int (iI (brV (St_p σ) (St_sg σ k) (St_n σ k) 1))]) (rest := []) hC hml hl.1 (m_X1_add hE H102 (hO.ext (zS_F hS) hMo) ρ σ ((dgM (oaV σ k) (dgI (dgA σ) (dgM (myV σ) 58236 8) k) 6) * 31 + wz (brV (St_p σ) (St_sg σ k) (St_n σ k) 0)) (brV (St_p σ) (St_sg σ k) (St_n σ k) 1) hH1 hX0) (lw_V q363 q365 qs6 q62 q366) rfl nd_X1_add rfl (z_rv hC (ci := 0) rfl hxx rfl) rfl (Nat.le_of_ble_eq_true rfl) ⟨Nat.le_of_ble_eq_true rfl, Nat.le_of_ble_eq_true rfl⟩ ⟨zfit (k := 0) (z := 3800) rfl rfl (by omega), zfit (k := 0) (z := 50000) rfl rfl (by omega)⟩ dX1_digest_91) ⟨zad (k := 0) rfl (by omega), zad (k := 0) rfl (by omega)⟩ hS (fun z hz => Or.inl (hz ▸ FC.in hE hh.sep (dom0 0 (by omega)) (by simp))) (fun r H103 locs hp hF hS1 => ?_)
                                            obtain ⟨_, rfl, rfl, hX9⟩ := hp
                                            have hP : va_P G.1 zCl [] H103 := va_nil
                                            have hD : va_D (zA (FC G ρ σ) H0) [] := va_nilD
                                            have hP : va_P G.1 zCl ([]) H103 := hP
                                            have hD : va_D (zA (FC G ρ σ) H0) ([]) := hD
                                            have hH1 : HC G s0 ρ σ H103 := HC.kn hE hH1 hF hX9
                                            have hS := hS1
                                            refine lv_pop2_2 hx hb dX1_digest_94 rfl ?_
                                            refine z_iinc (z := 2) (lv' := [(2, .int (iI 2)), (1, .int (iI ((k : Nat) : Int))), (0, .ref (ρ (0, 0, 0)))]) hx hb dX1_digest_95 hl (k := 0) rfl (by omega) (by decide) rfl (fun ls hl => ?_)
                                            refine lv_goto (tgt := 70) hx hb dX1_digest_98 (by decide) ?_
                                            refine lv_iload_n hx hb dX1_digest_70 rfl (lv_at hl 0 rfl) ?_
                                            refine lv_iconst (v := iI 4) hx hb dX1_digest_71 rfl ?_
                                            refine z_cge (tgt := 101) hx hb dX1_digest_72 (by decide) (by omega) (fun c104 => ?_) (fun c104 => ?_)
                                            · omega
                                            · obtain ⟨sm, hxx⟩ := id hH1.2.2.1.1
                                              refine lv_aload_n hx hb dX1_digest_75 rfl (lv_at hl 2 rfl) ?_
                                              refine lv_aload_n hx hb dX1_digest_76 rfl (lv_at hl 2 rfl) ?_
                                              refine z_get hC (k := 1) rfl in_X1 hxx (by decide) q152 (fun _ h => h) rfl dX1_digest_77 ?_
                                              refine lv_iload_n hx hb dX1_digest_80 rfl (lv_at hl 1 rfl) ?_
                                              obtain ⟨mda, hLa⟩ := id hH1.2.2.1.2.1
                                              refine z_go ((122 + 60 * k) + 1) ((1408 + 800 * k) + 4) (z_runV (As := [.int (iI ((k : Nat) : Int))]) (rest := [.ref (ρ (0, 0, 0))]) hC hml hl.1 (m_J2_get hE H103 (hO.ext (zS_F hS) hMo) (ρ (1, 0, 0)) (St_na σ) (fun k => ρ (6, k, 0)) (ρ (2, 0, 0)) mda k hLa (by omega)) (lw_V q372 q373 q374 q65 q375) rfl nd_J2_get rfl (z_rv hC (ci := 8) rfl hLa.1 rfl) rfl (Nat.le_of_ble_eq_true rfl) ⟨Nat.le_of_ble_eq_true rfl, Nat.le_of_ble_eq_true rfl⟩ ⟨zfit (k := 0) (z := 3800) rfl rfl (by omega), zfit (k := 0) (z := 50000) rfl rfl (by omega)⟩ dX1_digest_81) ⟨zad (k := 0) rfl (by omega), zad (k := 0) rfl (by omega)⟩ hS (fun _ z => z.elim) (fun r H105 locs hp hF hS1 => ?_)
                                              obtain ⟨_, rfl, rfl⟩ := hp
                                              have hP := zpk hP hF
                                              have hP : va_P G.1 zCl ([]) H105 := hP
                                              have hD : va_D (zA (FC G ρ σ) H0) ([]) := hD
                                              have hH1 : HC G s0 ρ σ H105 := hH1.ext0 hE hF
                                              have hX9 : zAt G (ρ (0, 0, 0)) (zOb 0 [.int (iI (St_p σ)), .ref (ρ (1, 0, 0)), .ref (ρ (3, 0, 0)), .ref (ρ (5, 0, 0)), .int (iI (St_kn σ : Int)), .long (lI (((dgM (oaV σ k) (dgI (dgA σ) (dgM (myV σ) 58236 8) k) 6) * 31 + wz (brV (St_p σ) (St_sg σ k) (St_n σ k) 0)) * 31 + wz (brV (St_p σ) (St_sg σ k) (St_n σ k) 1)))]) H105 := hX9.ext0 hF
                                              have hS := hS1
                                              have hkk := hH1.2.2.2.1 k (by omega)
                                              have hAk := hH1.ag (k := k) (by omega)
                                              obtain ⟨hn16k, -⟩ := hAk.n
                                              have halk := hal k (by omega)
                                              obtain ⟨sm, hxx⟩ := id hH1.2.2.1.1
                                              refine z_cast hC (ci := 4) rfl hkk.1 rfl q296 dX1_digest_84 ?_
                                              refine lv_iload_n hx hb dX1_digest_87 rfl (lv_at hl 0 rfl) ?_
                                              refine z_go ((122 + 60 * k) + 1) ((1408 + 800 * k) + 4) (z_runV (As := [.int (iI 2)]) (rest := [.ref (ρ (0, 0, 0))]) hC hml hl.1 (m_X5_breaks hE H105 (hO.ext (zS_F hS) hMo) (ρ (0, 0, 0)) (ρ (6, k, 0)) (St_p σ) (St_d σ k) (St_n σ k) (St_kd σ k) (St_dv σ k) (St_sg σ k) 2 (hH1.ag (k := k) (by omega)) (by decide)) (lw_V q406 q407 q408 q74 q409) rfl nd_X5_breaks rfl (z_rv hC (ci := 4) rfl hkk.1 rfl) rfl (Nat.le_of_ble_eq_true rfl) ⟨Nat.le_of_ble_eq_true rfl, Nat.le_of_ble_eq_true rfl⟩ ⟨zfit (k := 0) (z := 3800) rfl rfl (by omega), zfit (k := 0) (z := 50000) rfl rfl (by omega)⟩ dX1_digest_88) ⟨zad (k := 0) rfl (by omega), zad (k := 0) rfl (by omega)⟩ hS (fun _ z => z.elim) (fun r H106 locs hp hF hS1 => ?_)
                                              obtain ⟨_, rfl, rfl⟩ := hp
                                              have hP := zpk hP hF
                                              have hP : va_P G.1 zCl ([]) H106 := hP
                                              have hD : va_D (zA (FC G ρ σ) H0) ([]) := hD
                                              have hH1 : HC G s0 ρ σ H106 := hH1.ext0 hE hF
                                              have hX9 : zAt G (ρ (0, 0, 0)) (zOb 0 [.int (iI (St_p σ)), .ref (ρ (1, 0, 0)), .ref (ρ (3, 0, 0)), .ref (ρ (5, 0, 0)), .int (iI (St_kn σ : Int)), .long (lI (((dgM (oaV σ k) (dgI (dgA σ) (dgM (myV σ) 58236 8) k) 6) * 31 + wz (brV (St_p σ) (St_sg σ k) (St_n σ k) 0)) * 31 + wz (brV (St_p σ) (St_sg σ k) (St_n σ k) 1)))]) H106 := hX9.ext0 hF
                                              have hS := hS1
                                              have hX0 := hX9
                                              obtain ⟨sm, hxx⟩ := id hH1.2.2.1.1
                                              refine z_go ((122 + 60 * k) + 1) ((1408 + 800 * k) + 4) (z_runV (As := [.int (iI (brV (St_p σ) (St_sg σ k) (St_n σ k) 2))]) (rest := []) hC hml hl.1 (m_X1_add hE H106 (hO.ext (zS_F hS) hMo) ρ σ (((dgM (oaV σ k) (dgI (dgA σ) (dgM (myV σ) 58236 8) k) 6) * 31 + wz (brV (St_p σ) (St_sg σ k) (St_n σ k) 0)) * 31 + wz (brV (St_p σ) (St_sg σ k) (St_n σ k) 1)) (brV (St_p σ) (St_sg σ k) (St_n σ k) 2) hH1 hX0) (lw_V q363 q365 qs6 q62 q366) rfl nd_X1_add rfl (z_rv hC (ci := 0) rfl hxx rfl) rfl (Nat.le_of_ble_eq_true rfl) ⟨Nat.le_of_ble_eq_true rfl, Nat.le_of_ble_eq_true rfl⟩ ⟨zfit (k := 0) (z := 3800) rfl rfl (by omega), zfit (k := 0) (z := 50000) rfl rfl (by omega)⟩ dX1_digest_91) ⟨zad (k := 0) rfl (by omega), zad (k := 0) rfl (by omega)⟩ hS (fun z hz => Or.inl (hz ▸ FC.in hE hh.sep (dom0 0 (by omega)) (by simp))) (fun r H107 locs hp hF hS1 => ?_)
                                              obtain ⟨_, rfl, rfl, hX9⟩ := hp
                                              have hP : va_P G.1 zCl [] H107 := va_nil
                                              have hD : va_D (zA (FC G ρ σ) H0) [] := va_nilD
                                              have hP : va_P G.1 zCl ([]) H107 := hP
                                              have hD : va_D (zA (FC G ρ σ) H0) ([]) := hD
                                              have hH1 : HC G s0 ρ σ H107 := HC.kn hE hH1 hF hX9
                                              have hS := hS1
                                              refine lv_pop2_2 hx hb dX1_digest_94 rfl ?_
                                              refine z_iinc (z := 3) (lv' := [(2, .int (iI 3)), (1, .int (iI ((k : Nat) : Int))), (0, .ref (ρ (0, 0, 0)))]) hx hb dX1_digest_95 hl (k := 0) rfl (by omega) (by decide) rfl (fun ls hl => ?_)
                                              refine lv_goto (tgt := 70) hx hb dX1_digest_98 (by decide) ?_
                                              refine lv_iload_n hx hb dX1_digest_70 rfl (lv_at hl 0 rfl) ?_
                                              refine lv_iconst (v := iI 4) hx hb dX1_digest_71 rfl ?_
                                              refine z_cge (tgt := 101) hx hb dX1_digest_72 (by decide) (by omega) (fun c108 => ?_) (fun c108 => ?_)
                                              · omega
                                              · obtain ⟨sm, hxx⟩ := id hH1.2.2.1.1
                                                refine lv_aload_n hx hb dX1_digest_75 rfl (lv_at hl 2 rfl) ?_
                                                refine lv_aload_n hx hb dX1_digest_76 rfl (lv_at hl 2 rfl) ?_
                                                refine z_get hC (k := 1) rfl in_X1 hxx (by decide) q152 (fun _ h => h) rfl dX1_digest_77 ?_
                                                refine lv_iload_n hx hb dX1_digest_80 rfl (lv_at hl 1 rfl) ?_
                                                obtain ⟨mda, hLa⟩ := id hH1.2.2.1.2.1
                                                refine z_go ((122 + 60 * k) + 1) ((1408 + 800 * k) + 4) (z_runV (As := [.int (iI ((k : Nat) : Int))]) (rest := [.ref (ρ (0, 0, 0))]) hC hml hl.1 (m_J2_get hE H107 (hO.ext (zS_F hS) hMo) (ρ (1, 0, 0)) (St_na σ) (fun k => ρ (6, k, 0)) (ρ (2, 0, 0)) mda k hLa (by omega)) (lw_V q372 q373 q374 q65 q375) rfl nd_J2_get rfl (z_rv hC (ci := 8) rfl hLa.1 rfl) rfl (Nat.le_of_ble_eq_true rfl) ⟨Nat.le_of_ble_eq_true rfl, Nat.le_of_ble_eq_true rfl⟩ ⟨zfit (k := 0) (z := 3800) rfl rfl (by omega), zfit (k := 0) (z := 50000) rfl rfl (by omega)⟩ dX1_digest_81) ⟨zad (k := 0) rfl (by omega), zad (k := 0) rfl (by omega)⟩ hS (fun _ z => z.elim) (fun r H109 locs hp hF hS1 => ?_)
                                                obtain ⟨_, rfl, rfl⟩ := hp
                                                have hP := zpk hP hF
                                                have hP : va_P G.1 zCl ([]) H109 := hP
                                                have hD : va_D (zA (FC G ρ σ) H0) ([]) := hD
                                                have hH1 : HC G s0 ρ σ H109 := hH1.ext0 hE hF
                                                have hX9 : zAt G (ρ (0, 0, 0)) (zOb 0 [.int (iI (St_p σ)), .ref (ρ (1, 0, 0)), .ref (ρ (3, 0, 0)), .ref (ρ (5, 0, 0)), .int (iI (St_kn σ : Int)), .long (lI ((((dgM (oaV σ k) (dgI (dgA σ) (dgM (myV σ) 58236 8) k) 6) * 31 + wz (brV (St_p σ) (St_sg σ k) (St_n σ k) 0)) * 31 + wz (brV (St_p σ) (St_sg σ k) (St_n σ k) 1)) * 31 + wz (brV (St_p σ) (St_sg σ k) (St_n σ k) 2)))]) H109 := hX9.ext0 hF
                                                have hS := hS1
                                                have hkk := hH1.2.2.2.1 k (by omega)
                                                have hAk := hH1.ag (k := k) (by omega)
                                                obtain ⟨hn16k, -⟩ := hAk.n
                                                have halk := hal k (by omega)
                                                obtain ⟨sm, hxx⟩ := id hH1.2.2.1.1
                                                refine z_cast hC (ci := 4) rfl hkk.1 rfl q296 dX1_digest_84 ?_
                                                refine lv_iload_n hx hb dX1_digest_87 rfl (lv_at hl 0 rfl) ?_
                                                refine z_go ((122 + 60 * k) + 1) ((1408 + 800 * k) + 4) (z_runV (As := [.int (iI 3)]) (rest := [.ref (ρ (0, 0, 0))]) hC hml hl.1 (m_X5_breaks hE H109 (hO.ext (zS_F hS) hMo) (ρ (0, 0, 0)) (ρ (6, k, 0)) (St_p σ) (St_d σ k) (St_n σ k) (St_kd σ k) (St_dv σ k) (St_sg σ k) 3 (hH1.ag (k := k) (by omega)) (by decide)) (lw_V q406 q407 q408 q74 q409) rfl nd_X5_breaks rfl (z_rv hC (ci := 4) rfl hkk.1 rfl) rfl (Nat.le_of_ble_eq_true rfl) ⟨Nat.le_of_ble_eq_true rfl, Nat.le_of_ble_eq_true rfl⟩ ⟨zfit (k := 0) (z := 3800) rfl rfl (by omega), zfit (k := 0) (z := 50000) rfl rfl (by omega)⟩ dX1_digest_88) ⟨zad (k := 0) rfl (by omega), zad (k := 0) rfl (by omega)⟩ hS (fun _ z => z.elim) (fun r H110 locs hp hF hS1 => ?_)
                                                obtain ⟨_, rfl, rfl⟩ := hp
                                                have hP := zpk hP hF
                                                have hP : va_P G.1 zCl ([]) H110 := hP
                                                have hD : va_D (zA (FC G ρ σ) H0) ([]) := hD
                                                have hH1 : HC G s0 ρ σ H110 := hH1.ext0 hE hF
                                                have hX9 : zAt G (ρ (0, 0, 0)) (zOb 0 [.int (iI (St_p σ)), .ref (ρ (1, 0, 0)), .ref (ρ (3, 0, 0)), .ref (ρ (5, 0, 0)), .int (iI (St_kn σ : Int)), .long (lI ((((dgM (oaV σ k) (dgI (dgA σ) (dgM (myV σ) 58236 8) k) 6) * 31 + wz (brV (St_p σ) (St_sg σ k) (St_n σ k) 0)) * 31 + wz (brV (St_p σ) (St_sg σ k) (St_n σ k) 1)) * 31 + wz (brV (St_p σ) (St_sg σ k) (St_n σ k) 2)))]) H110 := hX9.ext0 hF
                                                have hS := hS1
                                                have hX0 := hX9
                                                obtain ⟨sm, hxx⟩ := id hH1.2.2.1.1
                                                refine z_go ((122 + 60 * k) + 1) ((1408 + 800 * k) + 4) (z_runV (As := [.int (iI (brV (St_p σ) (St_sg σ k) (St_n σ k) 3))]) (rest := []) hC hml hl.1 (m_X1_add hE H110 (hO.ext (zS_F hS) hMo) ρ σ ((((dgM (oaV σ k) (dgI (dgA σ) (dgM (myV σ) 58236 8) k) 6) * 31 + wz (brV (St_p σ) (St_sg σ k) (St_n σ k) 0)) * 31 + wz (brV (St_p σ) (St_sg σ k) (St_n σ k) 1)) * 31 + wz (brV (St_p σ) (St_sg σ k) (St_n σ k) 2)) (brV (St_p σ) (St_sg σ k) (St_n σ k) 3) hH1 hX0) (lw_V q363 q365 qs6 q62 q366) rfl nd_X1_add rfl (z_rv hC (ci := 0) rfl hxx rfl) rfl (Nat.le_of_ble_eq_true rfl) ⟨Nat.le_of_ble_eq_true rfl, Nat.le_of_ble_eq_true rfl⟩ ⟨zfit (k := 0) (z := 3800) rfl rfl (by omega), zfit (k := 0) (z := 50000) rfl rfl (by omega)⟩ dX1_digest_91) ⟨zad (k := 0) rfl (by omega), zad (k := 0) rfl (by omega)⟩ hS (fun z hz => Or.inl (hz ▸ FC.in hE hh.sep (dom0 0 (by omega)) (by simp))) (fun r H111 locs hp hF hS1 => ?_)
                                                obtain ⟨_, rfl, rfl, hX9⟩ := hp
                                                have hP : va_P G.1 zCl [] H111 := va_nil
                                                have hD : va_D (zA (FC G ρ σ) H0) [] := va_nilD
                                                have hP : va_P G.1 zCl ([]) H111 := hP
                                                have hD : va_D (zA (FC G ρ σ) H0) ([]) := hD
                                                have hH1 : HC G s0 ρ σ H111 := HC.kn hE hH1 hF hX9
                                                have hS := hS1
                                                refine lv_pop2_2 hx hb dX1_digest_94 rfl ?_
                                                refine z_iinc (z := 4) (lv' := [(2, .int (iI 4)), (1, .int (iI ((k : Nat) : Int))), (0, .ref (ρ (0, 0, 0)))]) hx hb dX1_digest_95 hl (k := 0) rfl (by omega) (by decide) rfl (fun ls hl => ?_)
                                                refine lv_goto (tgt := 70) hx hb dX1_digest_98 (by decide) ?_
                                                refine lv_iload_n hx hb dX1_digest_70 rfl (lv_at hl 0 rfl) ?_
                                                refine lv_iconst (v := iI 4) hx hb dX1_digest_71 rfl ?_
                                                refine z_cge (tgt := 101) hx hb dX1_digest_72 (by decide) (by omega) (fun c112 => ?_) (fun c112 => ?_)
                                                · have hX9 : zAt G (ρ (0, 0, 0)) (zOb 0 [.int (iI (St_p σ)), .ref (ρ (1, 0, 0)), .ref (ρ (3, 0, 0)), .ref (ρ (5, 0, 0)), .int (iI (St_kn σ : Int)), .long (lI (dgM (fun w => brV (St_p σ) (St_sg σ k) (St_n σ k) w) (dgM (oaV σ k) (dgI (dgA σ) (dgM (myV σ) 58236 8) k) 6) 4))]) H111 := hX9
                                                  have hpp := hp7
                                                  obtain ⟨sm, hxx⟩ := id hH1.2.2.1.1
                                                  refine lv_aload_n hx hb dX1_digest_101 rfl (lv_at hl 2 rfl) ?_
                                                  refine lv_aload_n hx hb dX1_digest_102 rfl (lv_at hl 2 rfl) ?_
                                                  refine z_get hC (k := 1) rfl in_X1 hxx (by decide) q152 (fun _ h => h) rfl dX1_digest_103 ?_
                                                  refine lv_iload_n hx hb dX1_digest_106 rfl (lv_at hl 1 rfl) ?_
                                                  obtain ⟨mda, hLa⟩ := id hH1.2.2.1.2.1
                                                  refine z_go ((122 + 60 * k) + 1) ((1408 + 800 * k) + 4) (z_runV (As := [.int (iI ((k : Nat) : Int))]) (rest := [.ref (ρ (0, 0, 0))]) hC hml hl.1 (m_J2_get hE H111 (hO.ext (zS_F hS) hMo) (ρ (1, 0, 0)) (St_na σ) (fun k => ρ (6, k, 0)) (ρ (2, 0, 0)) mda k hLa (by omega)) (lw_V q372 q373 q374 q65 q375) rfl nd_J2_get rfl (z_rv hC (ci := 8) rfl hLa.1 rfl) rfl (Nat.le_of_ble_eq_true rfl) ⟨Nat.le_of_ble_eq_true rfl, Nat.le_of_ble_eq_true rfl⟩ ⟨zfit (k := 0) (z := 3800) rfl rfl (by omega), zfit (k := 0) (z := 50000) rfl rfl (by omega)⟩ dX1_digest_107) ⟨zad (k := 0) rfl (by omega), zad (k := 0) rfl (by omega)⟩ hS (fun _ z => z.elim) (fun r H113 locs hp hF hS1 => ?_)
                                                  obtain ⟨_, rfl, rfl⟩ := hp
                                                  have hP := zpk hP hF
                                                  have hP : va_P G.1 zCl ([]) H113 := hP
                                                  have hD : va_D (zA (FC G ρ σ) H0) ([]) := hD
                                                  have hH1 : HC G s0 ρ σ H113 := hH1.ext0 hE hF
                                                  have hX9 : zAt G (ρ (0, 0, 0)) (zOb 0 [.int (iI (St_p σ)), .ref (ρ (1, 0, 0)), .ref (ρ (3, 0, 0)), .ref (ρ (5, 0, 0)), .int (iI (St_kn σ : Int)), .long (lI (dgM (fun w => brV (St_p σ) (St_sg σ k) (St_n σ k) w) (dgM (oaV σ k) (dgI (dgA σ) (dgM (myV σ) 58236 8) k) 6) 4))]) H113 := hX9.ext0 hF
                                                  have hS := hS1
                                                  have hkk := hH1.2.2.2.1 k (by omega)
                                                  have hAk := hH1.ag (k := k) (by omega)
                                                  obtain ⟨hn16k, -⟩ := hAk.n
                                                  have halk := hal k (by omega)
                                                  obtain ⟨sm, hxx⟩ := id hH1.2.2.1.1
                                                  refine z_cast hC (ci := 4) rfl hkk.1 rfl q296 dX1_digest_110 ?_
                                                  refine lv_iconst (v := iI 0) hx hb dX1_digest_113 rfl ?_
                                                  refine z_go (((122 + 60 * k) + 1) + 1) (((1408 + 800 * k) + 4) + 4) (z_runV (As := [.int (iI 0)]) (rest := [.ref (ρ (0, 0, 0))]) hC hml hl.1 (m_X5_row hE H113 (hO.ext (zS_F hS) hMo) (ρ (0, 0, 0)) (ρ (6, k, 0)) (St_p σ) (St_d σ k) (St_n σ k) (St_kd σ k) (St_dv σ k) (St_sg σ k) 0 (hH1.ag (k := k) (by omega)) ⟨by omega, by rcases hp with h | h | h <;> rw [h] <;> decide⟩) (lw_V q420 q421 q422 q74 q423) rfl nd_X5_row rfl (z_rv hC (ci := 4) rfl hkk.1 rfl) rfl (Nat.le_of_ble_eq_true rfl) ⟨Nat.le_of_ble_eq_true rfl, Nat.le_of_ble_eq_true rfl⟩ ⟨zfit (k := 1) (z := 3800) rfl rfl (by omega), zfit (k := 4) (z := 50000) rfl rfl (by omega)⟩ dX1_digest_114) ⟨zad (k := 1) rfl (by omega), zad (k := 4) rfl (by omega)⟩ hS (fun _ z => z.elim) (fun r H114 locs hp hF hS1 => ?_)
                                                  obtain ⟨_, rfl, rfl⟩ := hp
                                                  have hP := zpk hP hF
                                                  have hP : va_P G.1 zCl ([]) H114 := hP
                                                  have hD : va_D (zA (FC G ρ σ) H0) ([]) := hD
                                                  have hH1 : HC G s0 ρ σ H114 := hH1.ext0 hE hF
                                                  have hX9 : zAt G (ρ (0, 0, 0)) (zOb 0 [.int (iI (St_p σ)), .ref (ρ (1, 0, 0)), .ref (ρ (3, 0, 0)), .ref (ρ (5, 0, 0)), .int (iI (St_kn σ : Int)), .long (lI (dgM (fun w => brV (St_p σ) (St_sg σ k) (St_n σ k) w) (dgM (oaV σ k) (dgI (dgA σ) (dgM (myV σ) 58236 8) k) 6) 4))]) H114 := hX9.ext0 hF
                                                  have hS := hS1
                                                  have hX0 := hX9
                                                  obtain ⟨sm, hxx⟩ := id hH1.2.2.1.1
                                                  refine z_go (((122 + 60 * k) + 1) + 1) (((1408 + 800 * k) + 4) + 4) (z_runV (As := [.int (iI (rwV (St_p σ) (St_d σ k) (St_dv σ k) 0))]) (rest := []) hC hml hl.1 (m_X1_add hE H114 (hO.ext (zS_F hS) hMo) ρ σ (dgM (fun w => brV (St_p σ) (St_sg σ k) (St_n σ k) w) (dgM (oaV σ k) (dgI (dgA σ) (dgM (myV σ) 58236 8) k) 6) 4) (rwV (St_p σ) (St_d σ k) (St_dv σ k) 0) hH1 hX0) (lw_V q363 q365 qs6 q62 q366) rfl nd_X1_add rfl (z_rv hC (ci := 0) rfl hxx rfl) rfl (Nat.le_of_ble_eq_true rfl) ⟨Nat.le_of_ble_eq_true rfl, Nat.le_of_ble_eq_true rfl⟩ ⟨zfit (k := 0) (z := 3800) rfl rfl (by omega), zfit (k := 0) (z := 50000) rfl rfl (by omega)⟩ dX1_digest_117) ⟨zad (k := 0) rfl (by omega), zad (k := 0) rfl (by omega)⟩ hS (fun z hz => Or.inl (hz ▸ FC.in hE hh.sep (dom0 0 (by omega)) (by simp))) (fun r H115 locs hp hF hS1 => ?_)
                                                  obtain ⟨_, rfl, rfl, hX9⟩ := hp
                                                  have hP : va_P G.1 zCl [] H115 := va_nil
                                                  have hD : va_D (zA (FC G ρ σ) H0) [] := va_nilD
                                                  have hP : va_P G.1 zCl ([]) H115 := hP
                                                  have hD : va_D (zA (FC G ρ σ) H0) ([]) := hD
                                                  have hH1 : HC G s0 ρ σ H115 := HC.kn hE hH1 hF hX9
                                                  have hS := hS1
                                                  obtain ⟨sm, hxx⟩ := id hH1.2.2.1.1
                                                  refine lv_pop2_2 hx hb dX1_digest_120 rfl ?_
                                                  refine lv_aload_n hx hb dX1_digest_121 rfl (lv_at hl 2 rfl) ?_
                                                  refine lv_aload_n hx hb dX1_digest_122 rfl (lv_at hl 2 rfl) ?_
                                                  refine z_get hC (k := 1) rfl in_X1 hxx (by decide) q152 (fun _ h => h) rfl dX1_digest_123 ?_
                                                  refine lv_iload_n hx hb dX1_digest_126 rfl (lv_at hl 1 rfl) ?_
                                                  obtain ⟨mda, hLa⟩ := id hH1.2.2.1.2.1
                                                  refine z_go (((122 + 60 * k) + 1) + 1) (((1408 + 800 * k) + 4) + 4) (z_runV (As := [.int (iI ((k : Nat) : Int))]) (rest := [.ref (ρ (0, 0, 0))]) hC hml hl.1 (m_J2_get hE H115 (hO.ext (zS_F hS) hMo) (ρ (1, 0, 0)) (St_na σ) (fun k => ρ (6, k, 0)) (ρ (2, 0, 0)) mda k hLa (by omega)) (lw_V q372 q373 q374 q65 q375) rfl nd_J2_get rfl (z_rv hC (ci := 8) rfl hLa.1 rfl) rfl (Nat.le_of_ble_eq_true rfl) ⟨Nat.le_of_ble_eq_true rfl, Nat.le_of_ble_eq_true rfl⟩ ⟨zfit (k := 0) (z := 3800) rfl rfl (by omega), zfit (k := 0) (z := 50000) rfl rfl (by omega)⟩ dX1_digest_127) ⟨zad (k := 0) rfl (by omega), zad (k := 0) rfl (by omega)⟩ hS (fun _ z => z.elim) (fun r H116 locs hp hF hS1 => ?_)
                                                  obtain ⟨_, rfl, rfl⟩ := hp
                                                  have hP := zpk hP hF
                                                  have hP : va_P G.1 zCl ([]) H116 := hP
                                                  have hD : va_D (zA (FC G ρ σ) H0) ([]) := hD
                                                  have hH1 : HC G s0 ρ σ H116 := hH1.ext0 hE hF
                                                  have hX9 : zAt G (ρ (0, 0, 0)) (zOb 0 [.int (iI (St_p σ)), .ref (ρ (1, 0, 0)), .ref (ρ (3, 0, 0)), .ref (ρ (5, 0, 0)), .int (iI (St_kn σ : Int)), .long (lI ((dgM (fun w => brV (St_p σ) (St_sg σ k) (St_n σ k) w) (dgM (oaV σ k) (dgI (dgA σ) (dgM (myV σ) 58236 8) k) 6) 4) * 31 + wz (rwV (St_p σ) (St_d σ k) (St_dv σ k) 0)))]) H116 := hX9.ext0 hF
                                                  have hS := hS1
                                                  have hkk := hH1.2.2.2.1 k (by omega)
                                                  have hAk := hH1.ag (k := k) (by omega)
                                                  obtain ⟨hn16k, -⟩ := hAk.n
                                                  have halk := hal k (by omega)
                                                  obtain ⟨sm, hxx⟩ := id hH1.2.2.1.1
                                                  refine z_cast hC (ci := 4) rfl hkk.1 rfl q296 dX1_digest_130 ?_
                                                  refine lv_iconst (v := iI 1) hx hb dX1_digest_133 rfl ?_
                                                  refine z_go ((((122 + 60 * k) + 1) + 1) + 1) ((((1408 + 800 * k) + 4) + 4) + 4) (z_runV (As := [.int (iI 1)]) (rest := [.ref (ρ (0, 0, 0))]) hC hml hl.1 (m_X5_row hE H116 (hO.ext (zS_F hS) hMo) (ρ (0, 0, 0)) (ρ (6, k, 0)) (St_p σ) (St_d σ k) (St_n σ k) (St_kd σ k) (St_dv σ k) (St_sg σ k) 1 (hH1.ag (k := k) (by omega)) ⟨by omega, by rcases hp with h | h | h <;> rw [h] <;> decide⟩) (lw_V q420 q421 q422 q74 q423) rfl nd_X5_row rfl (z_rv hC (ci := 4) rfl hkk.1 rfl) rfl (Nat.le_of_ble_eq_true rfl) ⟨Nat.le_of_ble_eq_true rfl, Nat.le_of_ble_eq_true rfl⟩ ⟨zfit (k := 1) (z := 3800) rfl rfl (by omega), zfit (k := 4) (z := 50000) rfl rfl (by omega)⟩ dX1_digest_134) ⟨zad (k := 1) rfl (by omega), zad (k := 4) rfl (by omega)⟩ hS (fun _ z => z.elim) (fun r H117 locs hp hF hS1 => ?_)
                                                  obtain ⟨_, rfl, rfl⟩ := hp
                                                  have hP := zpk hP hF
                                                  have hP : va_P G.1 zCl ([]) H117 := hP
                                                  have hD : va_D (zA (FC G ρ σ) H0) ([]) := hD
                                                  have hH1 : HC G s0 ρ σ H117 := hH1.ext0 hE hF
                                                  have hX9 : zAt G (ρ (0, 0, 0)) (zOb 0 [.int (iI (St_p σ)), .ref (ρ (1, 0, 0)), .ref (ρ (3, 0, 0)), .ref (ρ (5, 0, 0)), .int (iI (St_kn σ : Int)), .long (lI ((dgM (fun w => brV (St_p σ) (St_sg σ k) (St_n σ k) w) (dgM (oaV σ k) (dgI (dgA σ) (dgM (myV σ) 58236 8) k) 6) 4) * 31 + wz (rwV (St_p σ) (St_d σ k) (St_dv σ k) 0)))]) H117 := hX9.ext0 hF
                                                  have hS := hS1
                                                  have hX0 := hX9
                                                  obtain ⟨sm, hxx⟩ := id hH1.2.2.1.1
                                                  refine z_go ((((122 + 60 * k) + 1) + 1) + 1) ((((1408 + 800 * k) + 4) + 4) + 4) (z_runV (As := [.int (iI (rwV (St_p σ) (St_d σ k) (St_dv σ k) 1))]) (rest := []) hC hml hl.1 (m_X1_add hE H117 (hO.ext (zS_F hS) hMo) ρ σ ((dgM (fun w => brV (St_p σ) (St_sg σ k) (St_n σ k) w) (dgM (oaV σ k) (dgI (dgA σ) (dgM (myV σ) 58236 8) k) 6) 4) * 31 + wz (rwV (St_p σ) (St_d σ k) (St_dv σ k) 0)) (rwV (St_p σ) (St_d σ k) (St_dv σ k) 1) hH1 hX0) (lw_V q363 q365 qs6 q62 q366) rfl nd_X1_add rfl (z_rv hC (ci := 0) rfl hxx rfl) rfl (Nat.le_of_ble_eq_true rfl) ⟨Nat.le_of_ble_eq_true rfl, Nat.le_of_ble_eq_true rfl⟩ ⟨zfit (k := 0) (z := 3800) rfl rfl (by omega), zfit (k := 0) (z := 50000) rfl rfl (by omega)⟩ dX1_digest_137) ⟨zad (k := 0) rfl (by omega), zad (k := 0) rfl (by omega)⟩ hS (fun z hz => Or.inl (hz ▸ FC.in hE hh.sep (dom0 0 (by omega)) (by simp))) (fun r H118 locs hp hF hS1 => ?_)
                                                  obtain ⟨_, rfl, rfl, hX9⟩ := hp
                                                  have hP : va_P G.1 zCl [] H118 := va_nil
                                                  have hD : va_D (zA (FC G ρ σ) H0) [] := va_nilD
                                                  have hP : va_P G.1 zCl ([]) H118 := hP
                                                  have hD : va_D (zA (FC G ρ σ) H0) ([]) := hD
                                                  have hH1 : HC G s0 ρ σ H118 := HC.kn hE hH1 hF hX9
                                                  have hS := hS1
                                                  have hX9 : zAt G (ρ (0, 0, 0)) (zOb 0 [.int (iI (St_p σ)), .ref (ρ (1, 0, 0)), .ref (ρ (3, 0, 0)), .ref (ρ (5, 0, 0)), .int (iI (St_kn σ : Int)), .long (lI (dgM (fun z => rwV (St_p σ) (St_d σ k) (St_dv σ k) (z : Int)) (dgM (fun w => brV (St_p σ) (St_sg σ k) (St_n σ k) w) (dgM (oaV σ k) (dgI (dgA σ) (dgM (myV σ) 58236 8) k) 6) 4) 2))]) H118 := hX9
                                                  refine lv_pop2_2 hx hb dX1_digest_140 rfl ?_
                                                  refine lv_iconst (v := iI 0) hx hb dX1_digest_141 rfl ?_
                                                  refine lv_istore_n (lv' := [(2, .int (iI 0)), (1, .int (iI ((k : Nat) : Int))), (0, .ref (ρ (0, 0, 0)))]) hx hb dX1_digest_142 rfl hl (by decide) rfl (fun ls hl => ?_)
                                                  have lp119 : ∀ (dlp119 : Nat) (k2 : Nat), St_na σ - k2 = dlp119 → (k2 ≤ St_na σ) → ∀ (H120 : Heap) (locs : List Loc) (ls : Array Slot), (HC G s0 ρ σ H120) → (zAt G (ρ (0, 0, 0)) (zOb 0 [.int (iI (St_p σ)), .ref (ρ (1, 0, 0)), .ref (ρ (3, 0, 0)), .ref (ρ (5, 0, 0)), .int (iI (St_kn σ : Int)), .long (lI (dgM (mnw σ k) (dgM (fun z => rwV (St_p σ) (St_d σ k) (St_dv σ k) (z : Int)) (dgM (fun w => brV (St_p σ) (St_sg σ k) (St_n σ k) w) (dgM (oaV σ k) (dgI (dgA σ) (dgM (myV σ) 58236 8) k) 6) 4) 2) k2))]) H120) → va_P G.1 zCl ([]) H120 → va_D (zA (FC G ρ σ) H0) ([]) → va_S (zA (FC G ρ σ) H0) H0 H120 locs → lv_has ls 6 [(2, .int (iI ((k2 : Nat) : Int))), (1, .int (iI ((k : Nat) : Int))), (0, .ref (ρ (0, 0, 0)))] → W pp l ee rm_m_X1_digest ss mm args below meth cd H120 locs ((((122 + 60 * k) + 1) + 1) + 1) ((((1408 + 800 * k) + 4) + 4) + 4) Q (F0 mm 143 ls []) := by
                                                    intro dlp119
                                                    induction dlp119 using Nat.strongRecOn with
                                                    | ind dlp119 ihlp119 =>
                                                      intro k2 hdlp119 hk2 H120 locs ls hH1 hX9 hP hD hS hl
                                                      have hX9 : zAt G (ρ (0, 0, 0)) (zOb 0 [.int (iI (St_p σ)), .ref (ρ (1, 0, 0)), .ref (ρ (3, 0, 0)), .ref (ρ (5, 0, 0)), .int (iI (St_kn σ : Int)), .long (lI (dgM (mnw σ k) (dgM (fun z => rwV (St_p σ) (St_d σ k) (St_dv σ k) (z : Int)) (dgM (fun w => brV (St_p σ) (St_sg σ k) (St_n σ k) w) (dgM (oaV σ k) (dgI (dgA σ) (dgM (myV σ) 58236 8) k) 6) 4) 2) k2))]) H120 := hX9
                                                      obtain ⟨sm, hxx⟩ := id hH1.2.2.1.1
                                                      refine lv_iload_n hx hb dX1_digest_143 rfl (lv_at hl 0 rfl) ?_
                                                      refine lv_aload_n hx hb dX1_digest_144 rfl (lv_at hl 2 rfl) ?_
                                                      refine z_get hC (k := 1) rfl in_X1 hxx (by decide) q152 (fun _ h => h) rfl dX1_digest_145 ?_
                                                      obtain ⟨mda, hLa⟩ := id hH1.2.2.1.2.1
                                                      refine z_go ((((122 + 60 * k) + 1) + 1) + 1) ((((1408 + 800 * k) + 4) + 4) + 4) (z_runV (As := []) (rest := [.int (iI ((k2 : Nat) : Int))]) hC hml hl.1 (m_J2_size hE H120 (hO.ext (zS_F hS) hMo) (ρ (1, 0, 0)) (St_na σ) (fun k => ρ (6, k, 0)) (ρ (2, 0, 0)) mda hLa) (lw_V q229 q230 q231 q65 q232) rfl nd_J2_size rfl (z_rv hC (ci := 8) rfl hLa.1 rfl) rfl (Nat.le_of_ble_eq_true rfl) ⟨Nat.le_of_ble_eq_true rfl, Nat.le_of_ble_eq_true rfl⟩ ⟨zfit (k := 0) (z := 3800) rfl rfl (by omega), zfit (k := 0) (z := 50000) rfl rfl (by omega)⟩ dX1_digest_148) ⟨zad (k := 0) rfl (by omega), zad (k := 0) rfl (by omega)⟩ hS (fun _ z => z.elim) (fun r H121 locs hp hF hS1 => ?_)
                                                      obtain ⟨_, rfl, rfl⟩ := hp
                                                      have hP := zpk hP hF
                                                      have hP : va_P G.1 zCl ([]) H121 := hP
                                                      have hD : va_D (zA (FC G ρ σ) H0) ([]) := hD
                                                      have hH1 : HC G s0 ρ σ H121 := hH1.ext0 hE hF
                                                      have hX9 : zAt G (ρ (0, 0, 0)) (zOb 0 [.int (iI (St_p σ)), .ref (ρ (1, 0, 0)), .ref (ρ (3, 0, 0)), .ref (ρ (5, 0, 0)), .int (iI (St_kn σ : Int)), .long (lI (dgM (mnw σ k) (dgM (fun z => rwV (St_p σ) (St_d σ k) (St_dv σ k) (z : Int)) (dgM (fun w => brV (St_p σ) (St_sg σ k) (St_n σ k) w) (dgM (oaV σ k) (dgI (dgA σ) (dgM (myV σ) 58236 8) k) 6) 4) 2) k2))]) H121 := hX9.ext0 hF
                                                      have hS := hS1
                                                      refine z_cge (tgt := 191) hx hb dX1_digest_151 (by decide) (by omega) (fun c122 => ?_) (fun c122 => ?_)
                                                      · have ek2 : k2 = St_na σ := by omega
                                                        refine z_iinc (z := ((k + 1 : Nat) : Int)) (lv' := [(1, .int (iI ((k + 1 : Nat) : Int))), (2, .int (iI ((k2 : Nat) : Int))), (0, .ref (ρ (0, 0, 0)))]) hx hb dX1_digest_191 hl (k := 1) rfl (by omega) (by decide) rfl (fun ls hl => ?_)
                                                        refine lv_goto (tgt := 33) hx hb dX1_digest_194 (by decide) ?_
                                                        have hX9 : zAt G (ρ (0, 0, 0)) (zOb 0 [.int (iI (St_p σ)), .ref (ρ (1, 0, 0)), .ref (ρ (3, 0, 0)), .ref (ρ (5, 0, 0)), .int (iI (St_kn σ : Int)), .long (lI (dgI (dgA σ) (dgM (myV σ) 58236 8) (k + 1)))]) H121 := by rw [ek2] at hX9; exact hX9
                                                        exact W.widen (by omega) (by omega) (ihlp27 (St_na σ - (k + 1)) (by omega) (k + 1) rfl (by omega) _ _ _ hH1 hX9 hP hD hS (lv_sub hl [0, 2] rfl))
                                                      · obtain ⟨sm, hxx⟩ := id hH1.2.2.1.1
                                                        refine lv_aload_n hx hb dX1_digest_154 rfl (lv_at hl 2 rfl) ?_
                                                        refine lv_aload_n hx hb dX1_digest_155 rfl (lv_at hl 2 rfl) ?_
                                                        refine lv_aload_n hx hb dX1_digest_156 rfl (lv_at hl 2 rfl) ?_
                                                        refine z_get hC (k := 1) rfl in_X1 hxx (by decide) q152 (fun _ h => h) rfl dX1_digest_157 ?_
                                                        refine lv_iload_n hx hb dX1_digest_160 rfl (lv_at hl 1 rfl) ?_
                                                        obtain ⟨mda, hLa⟩ := id hH1.2.2.1.2.1
                                                        refine z_go ((((122 + 60 * k) + 1) + 1) + 1) ((((1408 + 800 * k) + 4) + 4) + 4) (z_runV (As := [.int (iI ((k : Nat) : Int))]) (rest := [.ref (ρ (0, 0, 0)), .ref (ρ (0, 0, 0))]) hC hml hl.1 (m_J2_get hE H121 (hO.ext (zS_F hS) hMo) (ρ (1, 0, 0)) (St_na σ) (fun k => ρ (6, k, 0)) (ρ (2, 0, 0)) mda k hLa (by omega)) (lw_V q372 q373 q374 q65 q375) rfl nd_J2_get rfl (z_rv hC (ci := 8) rfl hLa.1 rfl) rfl (Nat.le_of_ble_eq_true rfl) ⟨Nat.le_of_ble_eq_true rfl, Nat.le_of_ble_eq_true rfl⟩ ⟨zfit (k := 0) (z := 3800) rfl rfl (by omega), zfit (k := 0) (z := 50000) rfl rfl (by omega)⟩ dX1_digest_161) ⟨zad (k := 0) rfl (by omega), zad (k := 0) rfl (by omega)⟩ hS (fun _ z => z.elim) (fun r H123 locs hp hF hS1 => ?_)
                                                        obtain ⟨_, rfl, rfl⟩ := hp
                                                        have hP := zpk hP hF
                                                        have hP : va_P G.1 zCl ([]) H123 := hP
                                                        have hD : va_D (zA (FC G ρ σ) H0) ([]) := hD
                                                        have hH1 : HC G s0 ρ σ H123 := hH1.ext0 hE hF
                                                        have hX9 : zAt G (ρ (0, 0, 0)) (zOb 0 [.int (iI (St_p σ)), .ref (ρ (1, 0, 0)), .ref (ρ (3, 0, 0)), .ref (ρ (5, 0, 0)), .int (iI (St_kn σ : Int)), .long (lI (dgM (mnw σ k) (dgM (fun z => rwV (St_p σ) (St_d σ k) (St_dv σ k) (z : Int)) (dgM (fun w => brV (St_p σ) (St_sg σ k) (St_n σ k) w) (dgM (oaV σ k) (dgI (dgA σ) (dgM (myV σ) 58236 8) k) 6) 4) 2) k2))]) H123 := hX9.ext0 hF
                                                        have hS := hS1
                                                        have hkk := hH1.2.2.2.1 k (by omega)
                                                        have hAk := hH1.ag (k := k) (by omega)
                                                        obtain ⟨hn16k, -⟩ := hAk.n
                                                        have halk := hal k (by omega)
                                                        obtain ⟨sm, hxx⟩ := id hH1.2.2.1.1
                                                        refine z_cast hC (ci := 4) rfl hkk.1 rfl q296 dX1_digest_164 ?_
                                                        refine lv_aload_n hx hb dX1_digest_167 rfl (lv_at hl 2 rfl) ?_
                                                        refine z_get hC (k := 1) rfl in_X1 hxx (by decide) q152 (fun _ h => h) rfl dX1_digest_168 ?_
                                                        refine lv_iload_n hx hb dX1_digest_171 rfl (lv_at hl 0 rfl) ?_
                                                        obtain ⟨sm, hxx⟩ := id hH1.2.2.1.1
                                                        obtain ⟨mda, hLa⟩ := id hH1.2.2.1.2.1
                                                        refine z_go ((((122 + 60 * k) + 1) + 1) + 1) ((((1408 + 800 * k) + 4) + 4) + 4) (z_runV (As := [.int (iI ((k2 : Nat) : Int))]) (rest := [.ref (ρ (6, k, 0)), .ref (ρ (0, 0, 0)), .ref (ρ (0, 0, 0))]) hC hml hl.1 (m_J2_get hE H123 (hO.ext (zS_F hS) hMo) (ρ (1, 0, 0)) (St_na σ) (fun k => ρ (6, k, 0)) (ρ (2, 0, 0)) mda k2 hLa (by omega)) (lw_V q372 q373 q374 q65 q375) rfl nd_J2_get rfl (z_rv hC (ci := 8) rfl hLa.1 rfl) rfl (Nat.le_of_ble_eq_true rfl) ⟨Nat.le_of_ble_eq_true rfl, Nat.le_of_ble_eq_true rfl⟩ ⟨zfit (k := 0) (z := 3800) rfl rfl (by omega), zfit (k := 0) (z := 50000) rfl rfl (by omega)⟩ dX1_digest_172) ⟨zad (k := 0) rfl (by omega), zad (k := 0) rfl (by omega)⟩ hS (fun _ z => z.elim) (fun r H124 locs hp hF hS1 => ?_)
                                                        obtain ⟨_, rfl, rfl⟩ := hp
                                                        have hP := zpk hP hF
                                                        have hP : va_P G.1 zCl ([]) H124 := hP
                                                        have hD : va_D (zA (FC G ρ σ) H0) ([]) := hD
                                                        have hH1 : HC G s0 ρ σ H124 := hH1.ext0 hE hF
                                                        have hX9 : zAt G (ρ (0, 0, 0)) (zOb 0 [.int (iI (St_p σ)), .ref (ρ (1, 0, 0)), .ref (ρ (3, 0, 0)), .ref (ρ (5, 0, 0)), .int (iI (St_kn σ : Int)), .long (lI (dgM (mnw σ k) (dgM (fun z => rwV (St_p σ) (St_d σ k) (St_dv σ k) (z : Int)) (dgM (fun w => brV (St_p σ) (St_sg σ k) (St_n σ k) w) (dgM (oaV σ k) (dgI (dgA σ) (dgM (myV σ) 58236 8) k) 6) 4) 2) k2))]) H124 := hX9.ext0 hF
                                                        have hS := hS1
                                                        have hkk2 := hH1.2.2.2.1 k2 (by omega)
                                                        have hAk2 := hH1.ag (k := k2) (by omega)
                                                        obtain ⟨hn16k2, -⟩ := hAk2.n
                                                        have halk2 := hal k2 (by omega)
                                                        refine z_cast hC (ci := 4) rfl hkk2.1 rfl q296 dX1_digest_175 ?_
                                                        obtain ⟨sm, hxx⟩ := id hH1.2.2.1.1
                                                        refine z_go ((((122 + 60 * k) + 1) + 1) + 1) ((((1408 + 800 * k) + 4) + 4) + 4) (z_runV (As := [.ref (ρ (6, k, 0)), .ref (ρ (6, k2, 0))]) (rest := [.ref (ρ (0, 0, 0))]) hC hml hl.1 (m_X1_matchNow hE H124 (hO.ext (zS_F hS) hMo) ρ σ k k2 hH1 ⟨by omega, by omega⟩) (lw_V q430 q432 qs11 q62 q433) rfl nd_X1_matchNow rfl (z_rv hC (ci := 0) rfl hxx rfl) rfl (Nat.le_of_ble_eq_true rfl) ⟨Nat.le_of_ble_eq_true rfl, Nat.le_of_ble_eq_true rfl⟩ ⟨zfit (k := 0) (z := 3800) rfl rfl (by omega), zfit (k := 0) (z := 50000) rfl rfl (by omega)⟩ dX1_digest_178) ⟨zad (k := 0) rfl (by omega), zad (k := 0) rfl (by omega)⟩ hS (fun _ z => z.elim) (fun r H125 locs hp hF hS1 => ?_)
                                                        obtain ⟨_, rfl, rfl⟩ := hp
                                                        have hP := zpk hP hF
                                                        have hP : va_P G.1 zCl ([]) H125 := hP
                                                        have hD : va_D (zA (FC G ρ σ) H0) ([]) := hD
                                                        have hH1 : HC G s0 ρ σ H125 := hH1.ext0 hE hF
                                                        have hX9 : zAt G (ρ (0, 0, 0)) (zOb 0 [.int (iI (St_p σ)), .ref (ρ (1, 0, 0)), .ref (ρ (3, 0, 0)), .ref (ρ (5, 0, 0)), .int (iI (St_kn σ : Int)), .long (lI (dgM (mnw σ k) (dgM (fun z => rwV (St_p σ) (St_d σ k) (St_dv σ k) (z : Int)) (dgM (fun w => brV (St_p σ) (St_sg σ k) (St_n σ k) w) (dgM (oaV σ k) (dgI (dgA σ) (dgM (myV σ) 58236 8) k) 6) 4) 2) k2))]) H125 := hX9.ext0 hF
                                                        have hS := hS1
                                                        have hX0 := hX9
                                                        obtain ⟨sm, hxx⟩ := id hH1.2.2.1.1
                                                        refine z_go ((((122 + 60 * k) + 1) + 1) + 1) ((((1408 + 800 * k) + 4) + 4) + 4) (z_runV (As := [.int (iI (mnw σ k k2))]) (rest := []) hC hml hl.1 (m_X1_add hE H125 (hO.ext (zS_F hS) hMo) ρ σ (dgM (mnw σ k) (dgM (fun z => rwV (St_p σ) (St_d σ k) (St_dv σ k) (z : Int)) (dgM (fun w => brV (St_p σ) (St_sg σ k) (St_n σ k) w) (dgM (oaV σ k) (dgI (dgA σ) (dgM (myV σ) 58236 8) k) 6) 4) 2) k2) (mnw σ k k2) hH1 hX0) (lw_V q363 q365 qs6 q62 q366) rfl nd_X1_add rfl (z_rv hC (ci := 0) rfl hxx rfl) rfl (Nat.le_of_ble_eq_true rfl) ⟨Nat.le_of_ble_eq_true rfl, Nat.le_of_ble_eq_true rfl⟩ ⟨zfit (k := 0) (z := 3800) rfl rfl (by omega), zfit (k := 0) (z := 50000) rfl rfl (by omega)⟩ dX1_digest_181) ⟨zad (k := 0) rfl (by omega), zad (k := 0) rfl (by omega)⟩ hS (fun z hz => Or.inl (hz ▸ FC.in hE hh.sep (dom0 0 (by omega)) (by simp))) (fun r H126 locs hp hF hS1 => ?_)
                                                        obtain ⟨_, rfl, rfl, hX9⟩ := hp
                                                        have hP : va_P G.1 zCl [] H126 := va_nil
                                                        have hD : va_D (zA (FC G ρ σ) H0) [] := va_nilD
                                                        have hP : va_P G.1 zCl ([]) H126 := hP
                                                        have hD : va_D (zA (FC G ρ σ) H0) ([]) := hD
                                                        have hH1 : HC G s0 ρ σ H126 := HC.kn hE hH1 hF hX9
                                                        have hS := hS1
                                                        refine lv_pop2_2 hx hb dX1_digest_184 rfl ?_
                                                        refine z_iinc (z := ((k2 + 1 : Nat) : Int)) (lv' := [(2, .int (iI ((k2 + 1 : Nat) : Int))), (1, .int (iI ((k : Nat) : Int))), (0, .ref (ρ (0, 0, 0)))]) hx hb dX1_digest_185 hl (k := 0) rfl (by omega) (by decide) rfl (fun ls hl => ?_)
                                                        refine lv_goto (tgt := 143) hx hb dX1_digest_188 (by decide) ?_
                                                        exact W.widen (by omega) (by omega) (ihlp119 (St_na σ - (k2 + 1)) (by omega) (k2 + 1) rfl (by omega) _ _ _ hH1 hX9 hP hD hS hl)
                                                  exact W.widen (by omega) (by omega) (lp119 _ 0 rfl (Nat.zero_le _) _ _ _ hH1 hX9 hP hD hS hl)
                                                · omega
                                      · omega
                    exact W.widen (by omega) (by omega) (lp27 _ 0 rfl (Nat.zero_le _) _ _ _ hH1 hX9 hP hD hS hl)
                  · omega

