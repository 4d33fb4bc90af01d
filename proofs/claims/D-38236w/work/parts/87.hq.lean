/-! THE MODEL: a word is run -/
set_option maxRecDepth 100000
section AR
variable {p : Program} {l : Launch} {e : Env} {R : Room} {s : State} {m : MethodId} {args : Array Value} {below : List Frame} {meth : Method} {c : Code} {H : Heap} {locs : List Loc} {cells slots : Nat} {Q : State → Prop}
variable {cc : ByteArray} {pc : Nat} {ls : Array Slot} {rest : List Value} {s0 : State} {G : zG} {own : String} {H0 : Heap} {ws : va_W} {A : Nat → Prop}
/-- a row put into an own array of rows: what stays -/
theorem z_aastIIO (h : zC p l s0 G s m args c own cc) (hP : va_P G.1 zCl ws H) (hD : va_D A ws) (hS : va_S A H0 H locs) (q0 : Nat) {a n k q nr : Nat} {f : Nat → Option Nat} {fr : Nat → Int} {x : Int} {ws' : va_W} (ha : ws[q0]? = some (a, zII G n f)) (hy : zAt G q (zI G nr fr) H) (hx : x = (k : Int)) (hk : k < n ∧ n < 2147483648) (hw : ws.set q0 (a, zII G n (va_up f k (some q))) = ws') (d : decode cc pc = .ok (.aastore, 1))
    (kk : ∀ (H1 : Heap) (locs1 : List Loc), va_P G.1 zCl ws' H1 → va_D A ws' → va_S A H0 H1 locs1 → H1.size = H.size → (∀ z : Nat, z ≠ a → H1[z]? = H[z]?) → W p l e R s m args below meth c H1 locs1 cells slots Q (F0 m (pc + 1) ls rest)) : W p l e R s m args below meth c H locs cells slots Q (F0 m pc ls (.ref q :: .int (iI x) :: .ref a :: rest)) := by
  subst hx
  obtain ⟨kA, k1, k2, k3⟩ := z_kII h
  obtain ⟨kC, hkC, -⟩ := Vm.findClass_spec k3
  have h1 : H[a]? = some (arrV (G.2 4) n (fun j => va_rf (f j))) := by
    have h2 : H[a]? = some (vp_cell (G.2 4) (n, .inr (.inr (.inr (.inr f))))) := hP q0 _ ha
    rw [vp_cell_q] at h2; exact h2
  have g1 : H[q]? = some (arrV (G.2 0) nr (fun j => .int (iI (fr j)))) := by
    have h2 : H[q]? = some (vp_cell (G.2 0) (nr, .inl (fun j => iI (fr j)))) := hy
    rw [vp_cell_i] at h2; exact h2
  refine W.aast h.x h.b h1 (fun q h => by cases h) (fun h => by cases h) k1 k2 rfl hkC ⟨by rw [iI_l0 ⟨by omega, by omega⟩]; omega, by rw [arrV_size, iI_cl (Nat.lt_trans hk.1 hk.2)]; exact hk.1⟩ g1 (fun q h => by cases h) hkC (by show s.vm.assignableAux (255 + 1) _ _ = true; rw [Vm.assignableAux]; simp [arrV]) rfl rfl d (fun H1 e1 z1 o1 => ?_)
  rw [iI_cl (Nat.lt_trans hk.1 hk.2)] at e1 ⊢
  have he : zAt G a (zII G n (va_up f k (some q))) H1 := by
    show H1[a]? = some (vp_cell (G.2 4) (n, .inr (.inr (.inr (.inr (va_up f k (some q)))))))
    rw [e1, vp_cell_q, arrV_store]
    congr 2
    funext j
    by_cases hj : j = k
    · subst hj; simp [updV, va_up, va_rf]
    · simp [updV, va_up, hj]
  subst hw
  exact kk H1 _ (hP.set hD ha he o1) (hD.set ha) (hS.put z1 o1 (hD.2 q0 _ ha)) z1 o1
end AR
theorem z_noAr3 {G : zG} {a b n k : Nat} {v : Nat → Int} {f : Nat → Option Nat} {H : Heap} (hn : 0 < n) (hk : 0 < k) (h : zAt G a (zI G n v) H) (h2 : zAt G b (zII G k f) H) : a ≠ b := by
  intro e
  subst e
  have h1 : H[a]? = some (vp_cell (G.2 0) (n, .inl (fun j => iI (v j)))) := h
  have h3 : H[a]? = some (vp_cell (G.2 4) (k, .inr (.inr (.inr (.inr f))))) := h2
  rw [h1, vp_cell_i, vp_cell_q] at h3
  have h4 := Option.some.inj h3
  have h6 : (arrV (G.2 0) n (fun j => Value.int (iI (v j)))).slots[0]? = (arrV (G.2 4) k (fun j => va_rf (f j))).slots[0]? := by rw [h4]
  rw [arrV_read _ _ (by omega), arrV_read _ _ (by omega)] at h6
  cases hf : f 0 with
  | none => rw [hf] at h6; simp [va_rf] at h6
  | some q => rw [hf] at h6; simp [va_rf] at h6
/-- the rows on the pile -/
def PLM (G : zG) (σ : St) (K n : Nat) (f : Nat → Option Nat) (r : Nat → Nat) (v : Nat → Nat → Int) (H : Heap) : Prop := ∀ i, i < n → f i = some (r i) ∧ zAt G (r i) (zI G (St_n σ K) (v i)) H ∧ rw_ok (St_p σ) (St_n σ K) (v i)
theorem PLM.ext0 {G : zG} {σ : St} {K n : Nat} {f : Nat → Option Nat} {r : Nat → Nat} {v : Nat → Nat → Int} {H H1 : Heap} (h : PLM G σ K n f r v H) (hF : zF M0 H H1) : PLM G σ K n f r v H1 := fun i hi => ⟨(h i hi).1, (h i hi).2.1.ext0 hF, (h i hi).2.2⟩
theorem PLM.put {G : zG} {σ : St} {K n k x qp : Nat} {w : Nat → Int} {f g : Nat → Option Nat} {r : Nat → Nat} {v : Nat → Nat → Int} {H H1 : Heap} (h : PLM G σ K n f r v H) (hk : k ≤ n) (hn : 0 < St_n σ K) (hq : zAt G qp (zII G 12 g) H) (h1 : H1.size = H.size) (h2 : ∀ z : Nat, z ≠ qp → H1[z]? = H[z]?) (hx : zAt G x (zI G (St_n σ K) w) H) (hw : rw_ok (St_p σ) (St_n σ K) w) : PLM G σ K (k + 1) (va_up f k (some x)) (fun i => if i = k then x else r i) (va_up v k w) H1 := by
  intro i hi
  have ext : ∀ {a : Nat} {u : Nat → Int}, zAt G a (zI G (St_n σ K) u) H → zAt G a (zI G (St_n σ K) u) H1 := fun ha => ha.ext (zF.one h1 h2) (z_noAr3 hn (by decide) ha hq)
  by_cases e : i = k
  · subst e
    refine ⟨?_, ?_, ?_⟩
    · show va_up f i (some x) i = some (if i = i then x else r i)
      rw [if_pos rfl]; exact va_up_self _ _ _
    · show zAt G (if i = i then x else r i) (zI G (St_n σ K) (va_up v i w i)) H1
      rw [if_pos rfl, va_up_self]; exact ext hx
    · show rw_ok (St_p σ) (St_n σ K) (va_up v i w i)
      rw [va_up_self]; exact hw
  · have hh := h i (by omega)
    refine ⟨?_, ?_, ?_⟩
    · show va_up f k (some x) i = some (if i = k then x else r i)
      rw [if_neg e, va_up_ne _ _ e]; exact hh.1
    · show zAt G (if i = k then x else r i) (zI G (St_n σ K) (va_up v k w i)) H1
      rw [if_neg e, va_up_ne _ _ e]; exact ext hh.2.1
    · show rw_ok (St_p σ) (St_n σ K) (va_up v k w i)
      rw [va_up_ne _ _ e]; exact hh.2.2
abbrev rm_m_X3_run : Room := { frames := 4, cells := 200, slots := 2000, locals := 86 }
set_option maxHeartbeats 4000000 in
theorem m_X3_run {l : Launch} {s0 : State} {G : zG} (hE : zE l s0 G) (H0 : Heap) (hO : zO s0 H0) (μ : Ro → Nat) (σ : St) (th : Int) (i w : Int) (hh : HM G s0 μ σ th H0) (hi : zi i ∧ zi w) : zM l s0 yX3_run cX3_run 11 (some FieldType.int) rm_m_X3_run [.ref (μ (0, 0, 0)), .int (iI i), .int (iI w)] H0 (FM G μ σ) (HPM G s0 H0 μ σ [IOB, IAE] ((fun y σ' => ∃ (a : Nat) (v : Nat → Nat → Int), (i = a ∧ a < St_ne σ) ∧ 0 ≤ w ∧ rnV σ (St_ea σ a) 10 w.toNat 0 (fun _ _ => 0) = some (1, v) ∧ σ' = stEl σ a (v 0) ∧ y = (szV (v 0) (St_n σ (St_ea σ a)) : Nat))) ((fun E => (E = IOB ∧ ¬ inE σ i) ∨ (E = IAE ∧ inE σ i ∧ ¬ (0 ≤ w ∧ ∃ v, rnV σ (St_ea σ i.toNat) 10 w.toNat 0 (fun _ _ => 0) = some (1, v)))))) := by
  refine z_met hE (by decide +kernel) (Nat.le_of_ble_eq_true rfl) ?_
  intro pp ee ss mm args below meth cd Q ls hC hml hrt hlk hnm hH hQ hS hl
  have hx := hC.x
  have hb := hC.b
  have hl : lv_has ls 11 [(0, .ref (μ (0, 0, 0))), (1, .int (iI i)), (2, .int (iI w))] := hl
  have hP : va_P G.1 zCl [] H0 := va_nil
  have hD : va_D (zA (FM G μ σ) H0) [] := va_nilD
  have hMo : ∀ z, (FM G μ σ) z → s0.heap.size ≤ z := fun z hz => FM.ge hh.sep hz
  have hH1 := hh
  obtain ⟨hp, hna, hal, hne9, hel9, hmr9⟩ := id hh.ok
  have hp7 : 0 < St_p σ ∧ St_p σ ≤ 7 := by rcases hp with h | h | h <;> rw [h] <;> decide
  have hP : va_P G.1 zCl [((μ (0, 0, 0)), zOb 2 [.int (iI th), .int (iI (St_p σ)), .int (iI ((St_kn σ : Nat) : Int)), .ref (μ (1, 0, 0)), .ref (μ (3, 0, 0))])] H0 := zP1 hh.2.2.1.1
  have hD : va_D (zA (FM G μ σ) H0) [((μ (0, 0, 0)), zOb 2 [.int (iI th), .int (iI (St_p σ)), .int (iI ((St_kn σ : Nat) : Int)), .ref (μ (1, 0, 0)), .ref (μ (3, 0, 0))])] := zD1 (Or.inl (FM.in hE hh.sep (domM0 0 (by omega)) (by simp [rAm])))
  refine lv_aload_n hx hb dX3_run_0 rfl (lv_at hl 0 rfl) ?_
  refine lv_iconst (v := iI 0) hx hb dX3_run_1 rfl ?_
  refine z_putO hC hP hD hS 0 (k := 0) rfl rfl in_X3 tyX3_ok nmX3 (by decide) q1495 (fun _ h => h) rfl rfl rfl rfl (Nat.le_of_ble_eq_true rfl) (ws' := [((μ (0, 0, 0)), zOb 2 [.int (iI 0), .int (iI (St_p σ)), .int (iI ((St_kn σ : Nat) : Int)), .ref (μ (1, 0, 0)), .ref (μ (3, 0, 0))])]) rfl dX3_run_2 (fun H1 locs hP hD hS hZ1 hZ2 => ?_)
  have hH1 : HM G s0 μ σ 0 H1 := HM.thr hE hH1 (zF.one hZ1 hZ2) (hP 0 _ rfl)
  have hP : va_P G.1 zCl [] H1 := va_nil
  have hD : va_D (zA (FM G μ σ) H0) [] := va_nilD
  refine lv_aload_n hx hb dX3_run_5 rfl (lv_at hl 0 rfl) ?_
  refine lv_iload_n hx hb dX3_run_6 rfl (lv_at hl 1 rfl) ?_
  refine z_go 0 0 (z_runV (As := [.int (iI i)]) (rest := []) hC hml hl.1 (m_X3_isElement hE H1 (hO.ext (zS_F hS) hMo) μ σ 0 i hH1 hi.1) (lw_V q1650 q1652 qs35 q67 q1653) rfl nd_X3_isElement rfl (z_rv hC (ci := 2) rfl hH1.2.2.1.1 rfl) rfl (Nat.le_of_ble_eq_true rfl) ⟨Nat.le_of_ble_eq_true rfl, Nat.le_of_ble_eq_true rfl⟩ ⟨zfit (k := 0) (z := 200) rfl rfl (by omega), zfit (k := 0) (z := 2000) rfl rfl (by omega)⟩ dX3_run_7) ⟨zad (k := 0) rfl (by omega), zad (k := 0) rfl (by omega)⟩ hS (fun _ z => z.elim) (fun r H2 locs hp hF hS1 => ?_)
  obtain ⟨_, rfl, rfl⟩ := hp
  have hP := zpk hP hF
  have hP : va_P G.1 zCl ([]) H2 := hP
  have hD : va_D (zA (FM G μ σ) H0) ([]) := hD
  have hH1 : HM G s0 μ σ 0 H2 := hH1.ext0 hE hF
  have hS := hS1
  obtain ⟨fl, hfl, hfl2⟩ : ∃ fl : Nat, fl ≤ 1 ∧ (if 0 ≤ i ∧ i < (((St_ne σ) : Nat) : Int) then (1 : Int) else 0) = fl ∧ (fl = 1 ↔ 0 ≤ i ∧ i < (((St_ne σ) : Nat) : Int)) := by by_cases h : 0 ≤ i ∧ i < (((St_ne σ) : Nat) : Int); exact ⟨1, by decide, by rw [if_pos h]; rfl, ⟨fun _ => h, fun _ => rfl⟩⟩; exact ⟨0, by decide, by rw [if_neg h]; rfl, ⟨fun z => absurd z (by decide), fun z => absurd z h⟩⟩
  refine z_top (b := ((fl : Nat) : Int)) (hfl2.1) ?_
  refine z_zne (tgt := 19) hx hb dX3_run_10 (by decide) (by omega) (fun c3 => ?_) (fun c3 => ?_)
  · have hok9 := hfl2.2.mp (by omega)
    obtain ⟨a, rfl⟩ : ∃ a : Nat, i = a := ⟨i.toNat, by omega⟩
    have ha9 : a < St_ne σ := by omega
    refine lv_iload_n hx hb dX3_run_19 rfl (lv_at hl 2 rfl) ?_
    refine z_zge (tgt := 29) hx hb dX3_run_20 (by decide) (by omega) (fun c4 => ?_) (fun c4 => ?_)
    · obtain ⟨W9, hW9⟩ : ∃ W9 : Nat, w = W9 := ⟨w.toNat, by omega⟩
      have hWn : w.toNat = W9 := by omega
      rw [hW9] at hl
      have hea := hh.ea (j := a) (by omega)
      have hnk := hh.n hea
      have ean : (((a : Nat) : Int)).toNat = a := by omega
      refine lv_aload_n hx hb dX3_run_29 rfl (lv_at hl 0 rfl) ?_
      refine lv_iload_n hx hb dX3_run_30 rfl (lv_at hl 1 rfl) ?_
      refine z_go 0 0 (z_runV (As := [.int (iI ((a : Nat) : Int))]) (rest := []) hC hml hl.1 (m_X3_home hE H2 (hO.ext (zS_F hS) hMo) μ σ 0 a hH1 (by omega)) (lw_V q1682 q1684 qs40 q67 q1685) rfl nd_X3_home rfl (z_rv hC (ci := 2) rfl hH1.2.2.1.1 rfl) rfl (Nat.le_of_ble_eq_true rfl) ⟨Nat.le_of_ble_eq_true rfl, Nat.le_of_ble_eq_true rfl⟩ ⟨zfit (k := 0) (z := 200) rfl rfl (by omega), zfit (k := 0) (z := 2000) rfl rfl (by omega)⟩ dX3_run_31) ⟨zad (k := 0) rfl (by omega), zad (k := 0) rfl (by omega)⟩ hS (fun _ z => z.elim) (fun r H5 locs hp hF hS1 => ?_)
      obtain ⟨_, rfl, rfl⟩ := hp
      have hP := zpk hP hF
      have hP : va_P G.1 zCl ([]) H5 := hP
      have hD : va_D (zA (FM G μ σ) H0) ([]) := hD
      have hH1 : HM G s0 μ σ 0 H5 := hH1.ext0 hE hF
      have hS := hS1
      refine lv_astore_n (lv' := [(3, .ref (μ (6, St_ea σ a, 0))), (0, .ref (μ (0, 0, 0))), (1, .int (iI ((a : Nat) : Int))), (2, .int (iI ((W9 : Nat) : Int)))]) hx hb dX3_run_34 rfl hl (by decide) rfl (fun ls hl => ?_)
      refine lv_bipush (v := iI 12) hx hb dX3_run_35 (by decide) ?_
      refine z_newII hC hP hD hS (N := 12) (c1 := 1) (s1 := 12) q1748 rfl (by omega) ⟨zle (z := 200) rfl (by omega), zle (z := 2000) rfl (by omega)⟩ ⟨by omega, by omega⟩ (ws' := fun q6 => [(q6, zII G 12 (fun _ => none))]) (fun _ => rfl) dX3_run_37 (fun q6 H7 hq0q6 hq1q6 hP hD hS hF => ?_)
      have hH1 : HM G s0 μ σ 0 H7 := hH1.ext0 hE hF
      refine lv_astore (lv' := [(4, .ref q6), (3, .ref (μ (6, St_ea σ a, 0))), (0, .ref (μ (0, 0, 0))), (1, .int (iI ((a : Nat) : Int))), (2, .int (iI ((W9 : Nat) : Int)))]) hx hb dX3_run_40 hl (by decide) rfl (fun ls hl => ?_)
      refine lv_iconst (v := iI 0) hx hb dX3_run_42 rfl ?_
      refine lv_istore (lv' := [(5, .int (iI 0)), (4, .ref q6), (3, .ref (μ (6, St_ea σ a, 0))), (0, .ref (μ (0, 0, 0))), (1, .int (iI ((a : Nat) : Int))), (2, .int (iI ((W9 : Nat) : Int)))]) hx hb dX3_run_43 hl (by decide) rfl (fun ls hl => ?_)
      refine lv_iload_n hx hb dX3_run_45 rfl (lv_at hl 5 rfl) ?_
      refine lv_istore (lv' := [(6, .int (iI ((W9 : Nat) : Int))), (5, .int (iI 0)), (4, .ref q6), (3, .ref (μ (6, St_ea σ a, 0))), (0, .ref (μ (0, 0, 0))), (1, .int (iI ((a : Nat) : Int))), (2, .int (iI ((W9 : Nat) : Int)))]) hx hb dX3_run_46 hl (by decide) rfl (fun ls hl => ?_)
      have hqn9 : H0.size ≤ q6 := hq0q6
      have hPm : PLM G σ (St_ea σ a) 0 (fun _ => none) (fun _ => 0) (fun _ _ => 0) H7 := fun i hi => absurd hi (Nat.not_lt_zero i)
      have lp8 : ∀ (dlp8 : Nat) (n : Nat) (f : Nat → Option Nat) (r : Nat → Nat) (v : Nat → Nat → Int) (w9 : Nat) (f9 : Nat), f9 = dlp8 → (w9 < 10 ^ f9 ∧ 0 < f9 ∧ n + f9 ≤ 10) → (rnV σ (St_ea σ a) f9 w9 n v = rnV σ (St_ea σ a) 10 W9 0 (fun _ _ => 0)) → (w9 ≤ W9) → ∀ (H9 : Heap) (locs : List Loc) (ls : Array Slot), (HM G s0 μ σ 0 H9) → (PLM G σ (St_ea σ a) n f r v H9) → va_P G.1 zCl ([(q6, zII G 12 f)]) H9 → va_D (zA (FM G μ σ) H0) ([(q6, zII G 12 f)]) → va_S (zA (FM G μ σ) H0) H0 H9 locs → lv_has ls 11 [(6, .int (iI ((w9 : Nat) : Int))), (5, .int (iI ((n : Nat) : Int))), (4, .ref q6), (3, .ref (μ (6, St_ea σ a, 0))), (0, .ref (μ (0, 0, 0))), (1, .int (iI ((a : Nat) : Int))), (2, .int (iI ((W9 : Nat) : Int)))] → W pp l ee rm_m_X3_run ss mm args below meth cd H9 locs (1 + 4 * (10 - f9)) (12 + 60 * (10 - f9)) Q (F0 mm 48 ls []) := by
        intro dlp8
        induction dlp8 using Nat.strongRecOn with
        | ind dlp8 ihlp8 =>
          intro n f r v w9 f9 hdlp8 hwf hrn hwb H9 locs ls hH1 hPm hP hD hS hl
          have hnf : n + f9 ≤ 10 := hwf.2.2
          refine lv_iload hx hb dX3_run_48 (lv_at hl 0 rfl) ?_
          refine lv_bipush (v := iI 10) hx hb dX3_run_50 (by decide) ?_
          refine z_rem hx hb (z := Int.tmod ((w9 : Nat) : Int) 10) dX3_run_52 (by omega) rfl ?_
          refine z_top (b := ((w9 % 10 : Nat) : Int)) (Int.tmod_eq_emod_of_nonneg (by omega)) ?_
          refine lv_istore (lv' := [(7, .int (iI ((w9 % 10 : Nat) : Int))), (6, .int (iI ((w9 : Nat) : Int))), (5, .int (iI ((n : Nat) : Int))), (4, .ref q6), (3, .ref (μ (6, St_ea σ a, 0))), (0, .ref (μ (0, 0, 0))), (1, .int (iI ((a : Nat) : Int))), (2, .int (iI ((W9 : Nat) : Int)))]) hx hb dX3_run_53 hl (by decide) rfl (fun ls hl => ?_)
          refine lv_iload hx hb dX3_run_55 (lv_at hl 1 rfl) ?_
          refine lv_bipush (v := iI 10) hx hb dX3_run_57 (by decide) ?_
          refine z_div hx hb (z := Int.tdiv ((w9 : Nat) : Int) 10) dX3_run_59 (by omega) rfl ?_
          refine z_top (b := ((w9 / 10 : Nat) : Int)) (Int.tdiv_eq_ediv_of_nonneg (by omega)) ?_
          refine lv_istore (lv' := [(6, .int (iI ((w9 / 10 : Nat) : Int))), (7, .int (iI ((w9 % 10 : Nat) : Int))), (5, .int (iI ((n : Nat) : Int))), (4, .ref q6), (3, .ref (μ (6, St_ea σ a, 0))), (0, .ref (μ (0, 0, 0))), (1, .int (iI ((a : Nat) : Int))), (2, .int (iI ((W9 : Nat) : Int)))]) hx hb dX3_run_60 hl (by decide) rfl (fun ls hl => ?_)
          refine lv_iload hx hb dX3_run_62 (lv_at hl 1 rfl) ?_
          refine lv_iconst (v := iI 5) hx hb dX3_run_64 rfl ?_
          refine z_cgt (tgt := 87) hx hb dX3_run_65 (by decide) (by omega) (fun c10 => ?_) (fun c10 => ?_)
          · refine lv_iconst (v := iI 1) hx hb dX3_run_87 rfl ?_
            refine lv_goto (tgt := 92) hx hb dX3_run_88 (by decide) ?_
            refine lv_istore (lv' := [(8, .int (iI 1)), (6, .int (iI ((w9 / 10 : Nat) : Int))), (7, .int (iI ((w9 % 10 : Nat) : Int))), (5, .int (iI ((n : Nat) : Int))), (4, .ref q6), (3, .ref (μ (6, St_ea σ a, 0))), (0, .ref (μ (0, 0, 0))), (1, .int (iI ((a : Nat) : Int))), (2, .int (iI ((W9 : Nat) : Int)))]) hx hb dX3_run_92 hl (by decide) rfl (fun ls hl => ?_)
            refine lv_iload hx hb dX3_run_94 (lv_at hl 0 rfl) ?_
            refine z_zeq (tgt := 126) hx hb dX3_run_96 (by decide) (by omega) (fun c11 => ?_) (fun c11 => ?_)
            · omega
            · refine lv_iload hx hb dX3_run_99 (lv_at hl 3 rfl) ?_
              refine lv_iload hx hb dX3_run_101 (lv_at hl 2 rfl) ?_
              refine lv_bipush (v := iI 9) hx hb dX3_run_103 (by decide) ?_
              refine z_cne (tgt := 112) hx hb dX3_run_105 (by decide) (by omega) (fun c12 => ?_) (fun c12 => ?_)
              · refine lv_iload hx hb dX3_run_112 (lv_at hl 2 rfl) ?_
                refine lv_iconst (v := iI 5) hx hb dX3_run_114 rfl ?_
                refine z_cle (tgt := 122) hx hb dX3_run_115 (by decide) (by omega) (fun c13 => ?_) (fun c13 => ?_)
                · omega
                · refine lv_iconst (v := iI 2) hx hb dX3_run_118 rfl ?_
                  refine lv_goto (tgt := 123) hx hb dX3_run_119 (by decide) ?_
                  refine z_cge (tgt := 132) hx hb dX3_run_123 (by decide) (by omega) (fun c14 => ?_) (fun c14 => ?_)
                  · obtain ⟨k, hk⟩ : ∃ k, n = k + 1 + 1 := ⟨n - 2, by omega⟩
                    subst hk
                    have hPk := hPm k (by omega)
                    have hPj := hPm (k + 1) (by omega)
                    refine lv_iload hx hb dX3_run_132 (lv_at hl 2 rfl) ?_
                    refine lv_bipush (v := iI 6) hx hb dX3_run_134 (by decide) ?_
                    refine z_cge (tgt := 156) hx hb dX3_run_136 (by decide) (by omega) (fun c15 => ?_) (fun c15 => ?_)
                    · refine lv_aload hx hb dX3_run_156 (lv_at hl 4 rfl) ?_
                      refine lv_iload hx hb dX3_run_158 (lv_at hl 3 rfl) ?_
                      refine lv_iconst (v := iI 1) hx hb dX3_run_160 rfl ?_
                      refine z_sub hx hb (z := ((k + 1 + 1 : Nat) : Int) - 1) dX3_run_161 rfl ?_
                      refine z_top (b := ((k + 1 : Nat) : Int)) (by omega) ?_
                      refine z_aald hC (hP 0 _ rfl) (k := k + 1) rfl (by omega) (q := (r (k + 1))) hPj.1 dX3_run_162 ?_
                      refine lv_astore (lv' := [(9, .ref (r (k + 1))), (8, .int (iI 1)), (6, .int (iI ((w9 / 10 : Nat) : Int))), (7, .int (iI ((w9 % 10 : Nat) : Int))), (5, .int (iI ((k + 1 + 1 : Nat) : Int))), (4, .ref q6), (3, .ref (μ (6, St_ea σ a, 0))), (0, .ref (μ (0, 0, 0))), (1, .int (iI ((a : Nat) : Int))), (2, .int (iI ((W9 : Nat) : Int)))]) hx hb dX3_run_163 hl (by decide) rfl (fun ls hl => ?_)
                      refine lv_iload hx hb dX3_run_165 (lv_at hl 3 rfl) ?_
                      refine lv_bipush (v := iI 9) hx hb dX3_run_167 (by decide) ?_
                      refine z_cne (tgt := 188) hx hb dX3_run_169 (by decide) (by omega) (fun c16 => ?_) (fun c16 => ?_)
                      · refine z_iinc (z := ((k + 1 : Nat) : Int)) (lv' := [(5, .int (iI ((k + 1 : Nat) : Int))), (9, .ref (r (k + 1))), (8, .int (iI 1)), (6, .int (iI ((w9 / 10 : Nat) : Int))), (7, .int (iI ((w9 % 10 : Nat) : Int))), (4, .ref q6), (3, .ref (μ (6, St_ea σ a, 0))), (0, .ref (μ (0, 0, 0))), (1, .int (iI ((a : Nat) : Int))), (2, .int (iI ((W9 : Nat) : Int)))]) hx hb dX3_run_188 hl (k := 4) rfl (by omega) (by decide) rfl (fun ls hl => ?_)
                        refine lv_aload hx hb dX3_run_191 (lv_at hl 5 rfl) ?_
                        refine lv_iload hx hb dX3_run_193 (lv_at hl 0 rfl) ?_
                        refine lv_iconst (v := iI 1) hx hb dX3_run_195 rfl ?_
                        refine z_sub hx hb (z := ((k + 1 : Nat) : Int) - 1) dX3_run_196 rfl ?_
                        refine z_top (b := ((k : Nat) : Int)) (by omega) ?_
                        refine z_aald hC (hP 0 _ rfl) (k := k) rfl (by omega) (q := (r k)) hPk.1 dX3_run_197 ?_
                        refine lv_astore (lv' := [(10, .ref (r k)), (5, .int (iI ((k + 1 : Nat) : Int))), (9, .ref (r (k + 1))), (8, .int (iI 1)), (6, .int (iI ((w9 / 10 : Nat) : Int))), (7, .int (iI ((w9 % 10 : Nat) : Int))), (4, .ref q6), (3, .ref (μ (6, St_ea σ a, 0))), (0, .ref (μ (0, 0, 0))), (1, .int (iI ((a : Nat) : Int))), (2, .int (iI ((W9 : Nat) : Int)))]) hx hb dX3_run_198 hl (by decide) rfl (fun ls hl => ?_)
                        refine lv_aload hx hb dX3_run_200 (lv_at hl 6 rfl) ?_
                        refine lv_iload hx hb dX3_run_202 (lv_at hl 1 rfl) ?_
                        refine lv_iconst (v := iI 1) hx hb dX3_run_204 rfl ?_
                        refine z_sub hx hb (z := ((k + 1 : Nat) : Int) - 1) dX3_run_205 rfl ?_
                        refine z_top (b := ((k : Nat) : Int)) (by omega) ?_
                        refine lv_iload hx hb dX3_run_206 (lv_at hl 5 rfl) ?_
                        refine lv_bipush (v := iI 7) hx hb dX3_run_208 (by decide) ?_
                        refine z_cne (tgt := 224) hx hb dX3_run_210 (by decide) (by omega) (fun c17 => ?_) (fun c17 => ?_)
                        · refine lv_aload_n hx hb dX3_run_224 rfl (lv_at hl 8 rfl) ?_
                          refine lv_aload hx hb dX3_run_225 (lv_at hl 0 rfl) ?_
                          refine lv_aload hx hb dX3_run_227 (lv_at hl 2 rfl) ?_
                          refine lv_iload hx hb dX3_run_229 (lv_at hl 5 rfl) ?_
                          refine lv_bipush (v := iI 6) hx hb dX3_run_231 (by decide) ?_
                          refine z_cne (tgt := 240) hx hb dX3_run_233 (by decide) (by omega) (fun c18 => ?_) (fun c18 => ?_)
                          · refine lv_iconst (v := iI (-1)) hx hb dX3_run_240 rfl ?_
                            have hsz9 : H0.size ≤ H9.size := hS.1
                            refine z_go ((1 + 4 * (10 - f9)) + 1) ((12 + 60 * (10 - f9)) + 16) (z_runV (As := [.ref (r k), .ref (r (k + 1)), .int (iI (-1))]) (rest := [.int (iI ((k : Nat) : Int)), .ref q6]) hC hml hl.1 (m_X3_plus hE H9 (hO.ext (zS_F hS) hMo) μ σ 0 (St_ea σ a) (r k) (v k) (r (k + 1)) (v (k + 1)) (-1) hH1 hea hPk.2.1 hPk.2.2 hPj.2.1 hPj.2.2 (by decide)) (lw_V q1666 q1668 qs38 q67 q1669) rfl nd_X3_plus rfl (z_rv hC (ci := 2) rfl hH1.2.2.1.1 rfl) rfl (Nat.le_of_ble_eq_true rfl) ⟨Nat.le_of_ble_eq_true rfl, Nat.le_of_ble_eq_true rfl⟩ ⟨zfit (k := 1) (z := 200) rfl rfl (by omega), zfit (k := 16) (z := 2000) rfl rfl (by omega)⟩ dX3_run_241) ⟨zad (k := 1) rfl (by omega), zad (k := 16) rfl (by omega)⟩ hS (fun _ z => z.elim) (fun r H20 locs hp hF hS1 => ?_)
                            obtain ⟨qr19, rfl, hN⟩ := hp
                            obtain ⟨hP, hD⟩ := zjn hP hD hS.1 hF hN
                            have hP : va_P G.1 zCl ([(q6, zII G 12 f), (qr19, zI G (St_n σ (St_ea σ a)) (plV (St_p σ) (-1) (v k) (v (k + 1))))]) H20 := hP
                            have hD : va_D (zA (FM G μ σ) H0) ([(q6, zII G 12 f), (qr19, zI G (St_n σ (St_ea σ a)) (plV (St_p σ) (-1) (v k) (v (k + 1))))]) := hD
                            have hH1 : HM G s0 μ σ 0 H20 := hH1.ext0 hE hF
                            have hPm : PLM G σ (St_ea σ a) (k + 1 + 1) f r v H20 := hPm.ext0 hF
                            have hS := hS1
                            have hNwqr19 : H0.size ≤ qr19 := Nat.le_trans hsz9 (hN.2.2 0 _ rfl)
                            have hRq := hP 1 _ rfl
                            have hP : va_P G.1 zCl [(q6, zII G 12 f)] H20 := hP.sub [0] rfl
                            have hD : va_D (zA (FM G μ σ) H0) [(q6, zII G 12 f)] := hD.sub [0] (by decide) rfl
                            have hq9 := hP 0 _ rfl
                            refine z_aastIIO hC hP hD hS 0 (k := k) rfl hRq rfl (by omega) (ws' := [(q6, zII G 12 (va_up f k (some qr19)))]) rfl dX3_run_244 (fun H21 locs hP hD hS hZ1 hZ2 => ?_)
                            have hPm : PLM G σ (St_ea σ a) (k + 1) (va_up f k (some qr19)) (fun i => if i = k then qr19 else r i) (va_up v k (plV (St_p σ) (-1) (v k) (v (k + 1)))) H21 := hPm.put (by omega) hnk.1 hq9 hZ1 hZ2 hRq (plV_ok hp _ _ _ _)
                            have hH1 : HM G s0 μ σ 0 H21 := hH1.ext hE (zF.one hZ1 hZ2) (fun a9 ha9 _ z => by have := hh.lt hE hO a9 ha9; omega)
                            have hst : stp σ (St_ea σ a) (w9 % 10) (k + 1 + 1) v = some (k + 1, va_up v k (plV (St_p σ) (-1) (v k) (v (k + 1)))) := by rw [stp_2 (by omega) (by omega), if_neg (by omega), if_neg (by omega)]
                            refine lv_iload hx hb dX3_run_245 (lv_at hl 4 rfl) ?_
                            refine z_zgt (tgt := 48) hx hb dX3_run_247 (by decide) (by omega) (fun c22 => ?_) (fun c22 => ?_)
                            · have hw0 : w9 / 10 ≠ 0 := by omega
                              have hfd := pw10_0 hwf.1 hw0
                              exact W.widen (by omega) (by omega) (ihlp8 ((f9 - 1)) (by omega) (k + 1) (va_up f k (some qr19)) (fun i => if i = k then qr19 else r i) (va_up v k (plV (St_p σ) (-1) (v k) (v (k + 1)))) (w9 / 10) (f9 - 1) rfl (⟨pw10 hwf.2.1 hwf.1, by omega, by have := stp_le hst; omega⟩) (by rw [← hrn]; exact (rnV_go hwf.2.1 hst hw0).symm) (Nat.le_trans (Nat.div_le_self _ _) hwb) _ _ _ hH1 hPm hP hD hS (lv_sub hl [4, 1, 6, 7, 8, 9, 10] rfl))
                            · have hen := rnV_end hwf.2.1 hst (by omega)
                              rw [hrn] at hen
                              refine lv_iload hx hb dX3_run_250 (lv_at hl 1 rfl) ?_
                              refine lv_iconst (v := iI 1) hx hb dX3_run_252 rfl ?_
                              refine z_ceq (tgt := 262) hx hb dX3_run_253 (by decide) (by omega) (fun c23 => ?_) (fun c23 => ?_)
                              · have hm1 : k + 1 = 1 := by omega
                                have hP0 := hPm 0 (by omega)
                                refine lv_aload_n hx hb dX3_run_262 rfl (lv_at hl 8 rfl) ?_
                                refine lv_iload_n hx hb dX3_run_263 rfl (lv_at hl 9 rfl) ?_
                                refine lv_aload_n hx hb dX3_run_264 rfl (lv_at hl 7 rfl) ?_
                                refine lv_aload hx hb dX3_run_265 (lv_at hl 6 rfl) ?_
                                refine lv_iconst (v := iI 0) hx hb dX3_run_267 rfl ?_
                                refine z_aald hC (hP 0 _ rfl) (k := 0) rfl (by omega) (q := ((fun i => if i = k then qr19 else r i) 0)) hP0.1 dX3_run_268 ?_
                                refine lv_iconst (v := iI 1) hx hb dX3_run_269 rfl ?_
                                have hsz9 : H0.size ≤ H21.size := hS.1
                                have hUSt_eaσa := hH1.al (k := St_ea σ a) hea
                                refine z_go (((1 + 4 * (10 - f9)) + 1) + 1) (((12 + 60 * (10 - f9)) + 16) + 16) (z_runV (As := [.ref ((fun i => if i = k then qr19 else r i) 0), .int (iI 1)]) (rest := [.int (iI ((a : Nat) : Int)), .ref (μ (0, 0, 0))]) hC hml hl.1 (m_X6_scaled hE H21 (hO.ext (zS_F hS) hMo) μ σ 0 (St_ea σ a) ((fun i => if i = k then qr19 else r i) 0) ((va_up v k (plV (St_p σ) (-1) (v k) (v (k + 1)))) 0) 1 hH1 hea hP0.2.1 hP0.2.2 (by decide)) (lw_V q1694 q1695 q1696 q82 q1697) rfl nd_X6_scaled rfl (z_rv hC (ci := 5) rfl hUSt_eaσa.1 rfl) rfl (Nat.le_of_ble_eq_true rfl) ⟨Nat.le_of_ble_eq_true rfl, Nat.le_of_ble_eq_true rfl⟩ ⟨zfit (k := 1) (z := 200) rfl rfl (by omega), zfit (k := 16) (z := 2000) rfl rfl (by omega)⟩ dX3_run_270) ⟨zad (k := 1) rfl (by omega), zad (k := 16) rfl (by omega)⟩ hS (fun _ z => z.elim) (fun r H25 locs hp hF hS1 => ?_)
                                obtain ⟨qr24, rfl, hN⟩ := hp
                                obtain ⟨hP, hD⟩ := zjn hP hD hS.1 hF hN
                                have hP : va_P G.1 zCl ([(q6, zII G 12 (va_up f k (some qr19))), (qr24, zI G (St_n σ (St_ea σ a)) (scV (St_p σ) 1 ((va_up v k (plV (St_p σ) (-1) (v k) (v (k + 1)))) 0)))]) H25 := hP
                                have hD : va_D (zA (FM G μ σ) H0) ([(q6, zII G 12 (va_up f k (some qr19))), (qr24, zI G (St_n σ (St_ea σ a)) (scV (St_p σ) 1 ((va_up v k (plV (St_p σ) (-1) (v k) (v (k + 1)))) 0)))]) := hD
                                have hH1 : HM G s0 μ σ 0 H25 := hH1.ext0 hE hF
                                have hS := hS1
                                have hNwqr24 : H0.size ≤ qr24 := Nat.le_trans hsz9 (hN.2.2 0 _ rfl)
                                have hsc9 : ∀ i, i < St_n σ (St_ea σ a) → scV (St_p σ) 1 ((va_up v k (plV (St_p σ) (-1) (v k) (v (k + 1)))) 0) i = ((va_up v k (plV (St_p σ) (-1) (v k) (v (k + 1)))) 0) i := fun i hi => sc1 hp hP0.2.2 i hi
                                have hP : va_P G.1 zCl ([(q6, zII G 12 (va_up f k (some qr19))), (qr24, zI G (St_n σ (St_ea σ a)) ((va_up v k (plV (St_p σ) (-1) (v k) (v (k + 1)))) 0))]) H25 := zcI hP 1 rfl (hsc9)
                                have hD : va_D (zA (FM G μ σ) H0) ([(q6, zII G 12 (va_up f k (some qr19))), (qr24, zI G (St_n σ (St_ea σ a)) ((va_up v k (plV (St_p σ) (-1) (v k) (v (k + 1)))) 0))]) := hD.set (p := 1) rfl
                                have hHb := hH1
                                have hRb := hP 1 _ rfl
                                refine z_go (((1 + 4 * (10 - f9)) + 1) + 1) (((12 + 60 * (10 - f9)) + 16) + 16) (z_runV (As := [.int (iI ((a : Nat) : Int)), .ref qr24]) (rest := []) hC hml hl.1 (m_X3_put hE H25 (hO.ext (zS_F hS) hMo) μ σ 0 a qr24 ((va_up v k (plV (St_p σ) (-1) (v k) (v (k + 1)))) 0) hHb (by omega) hRb hP0.2.2) (lw_V q1671 q1673 qs39 q67 q1674) rfl nd_X3_put rfl (z_rv hC (ci := 2) rfl hHb.2.2.1.1 rfl) rfl (Nat.le_of_ble_eq_true rfl) ⟨Nat.le_of_ble_eq_true rfl, Nat.le_of_ble_eq_true rfl⟩ ⟨zfit (k := 0) (z := 200) rfl rfl (by omega), zfit (k := 0) (z := 2000) rfl rfl (by omega)⟩ dX3_run_273) ⟨zad (k := 0) rfl (by omega), zad (k := 0) rfl (by omega)⟩ hS (fun z hz => Or.inl (hz ▸ FM.in hE hh.sep (domME 13 a (Or.inl rfl) (by omega)) (by simp [rAm]))) (fun r H26 locs hp hF hS1 => ?_)
                                obtain ⟨_, rfl, rfl, hm9⟩ := hp
                                have hP : va_P G.1 zCl [] H26 := va_nil
                                have hD : va_D (zA (FM G μ σ) H0) [] := va_nilD
                                have hP : va_P G.1 zCl ([]) H26 := hP
                                have hD : va_D (zA (FM G μ σ) H0) ([]) := hD
                                have hS := hS1
                                have hPo : PoM G s0 H0 μ σ (stEl σ a ((va_up v k (plV (St_p σ) (-1) (v k) (v (k + 1)))) 0)) 0 H26 := HM.put hE hO hh hHb (by omega) hF hm9 (zAt.ext hRb hF (Ne.symm (z_noArr hE (ci := 7) (t := 0) rfl (hHb.el (j := a) (by omega)).1 rfl hRb))) hNwqr24 hP0.2.2
                                exact z_iret hC hrt hlk hQ hS ⟨zle (z := 200) rfl (by omega), zle (z := 2000) rfl (by omega)⟩ ⟨_, rfl, 0, stEl σ a ((va_up v k (plV (St_p σ) (-1) (v k) (v (k + 1)))) 0), hPo, Or.inl ⟨rfl, ⟨a, va_up v k (plV (St_p σ) (-1) (v k) (v (k + 1))), ⟨by omega, by omega⟩, by omega, by rw [hWn, hen, hm1], rfl, rfl⟩⟩⟩ dX3_run_276
                              · refine lv_aload_n hx hb dX3_run_256 rfl (lv_at hl 8 rfl) ?_
                                refine lv_iconst (v := iI 2) hx hb dX3_run_257 rfl ?_
                                have hHb := hH1
                                refine z_go ((1 + 4 * (10 - f9)) + 1) ((12 + 60 * (10 - f9)) + 16) (z_runV (As := [.int (iI 2)]) (rest := []) hC hml hl.1 (m_X3_no hE H21 (hO.ext (zS_F hS) hMo) μ σ 0 2 hHb) (lw_V q1520 q1522 qs29 q67 q1523) rfl nd_X3_no rfl (z_rv hC (ci := 2) rfl hHb.2.2.1.1 rfl) rfl (Nat.le_of_ble_eq_true rfl) ⟨Nat.le_of_ble_eq_true rfl, Nat.le_of_ble_eq_true rfl⟩ ⟨zfit (k := 0) (z := 200) rfl rfl (by omega), zfit (k := 0) (z := 2000) rfl rfl (by omega)⟩ dX3_run_258) ⟨zad (k := 0) rfl (by omega), zad (k := 0) rfl (by omega)⟩ hS (fun z hz => Or.inl (hz ▸ FM.in hE hh.sep (domM0 0 (by omega)) (by simp [rAm]))) (fun r H27 locs hp hF hS1 => ?_)
                                obtain ⟨_, rfl, rfl, hx9⟩ := hp
                                have hP : va_P G.1 zCl [] H27 := va_nil
                                have hD : va_D (zA (FM G μ σ) H0) [] := va_nilD
                                have hP : va_P G.1 zCl ([]) H27 := hP
                                have hD : va_D (zA (FM G μ σ) H0) ([]) := hD
                                have hS := hS1
                                have hH9 : HM G s0 μ σ ((2 : Nat) : Int) H27 := HM.thr hE hHb hF hx9
                                exact z_iret hC hrt hlk hQ hS ⟨zle (z := 200) rfl (by omega), zle (z := 2000) rfl (by omega)⟩ ⟨_, rfl, 2, σ, PoM.same hH9, Or.inr ⟨by decide, rfl, by decide, Or.inr ⟨rfl, inE_n (by omega), fun z9 => by obtain ⟨_, v9, e9⟩ := z9; rw [ean, hWn, hen] at e9; injection e9 with e9; injection e9 with e9 _; omega⟩⟩⟩ dX3_run_261
                          · refine lv_iconst (v := iI 1) hx hb dX3_run_236 rfl ?_
                            refine lv_goto (tgt := 241) hx hb dX3_run_237 (by decide) ?_
                            have hsz9 : H0.size ≤ H9.size := hS.1
                            refine z_go ((1 + 4 * (10 - f9)) + 1) ((12 + 60 * (10 - f9)) + 16) (z_runV (As := [.ref (r k), .ref (r (k + 1)), .int (iI 1)]) (rest := [.int (iI ((k : Nat) : Int)), .ref q6]) hC hml hl.1 (m_X3_plus hE H9 (hO.ext (zS_F hS) hMo) μ σ 0 (St_ea σ a) (r k) (v k) (r (k + 1)) (v (k + 1)) (1) hH1 hea hPk.2.1 hPk.2.2 hPj.2.1 hPj.2.2 (by decide)) (lw_V q1666 q1668 qs38 q67 q1669) rfl nd_X3_plus rfl (z_rv hC (ci := 2) rfl hH1.2.2.1.1 rfl) rfl (Nat.le_of_ble_eq_true rfl) ⟨Nat.le_of_ble_eq_true rfl, Nat.le_of_ble_eq_true rfl⟩ ⟨zfit (k := 1) (z := 200) rfl rfl (by omega), zfit (k := 16) (z := 2000) rfl rfl (by omega)⟩ dX3_run_241) ⟨zad (k := 1) rfl (by omega), zad (k := 16) rfl (by omega)⟩ hS (fun _ z => z.elim) (fun r H29 locs hp hF hS1 => ?_)
                            obtain ⟨qr28, rfl, hN⟩ := hp
                            obtain ⟨hP, hD⟩ := zjn hP hD hS.1 hF hN
                            have hP : va_P G.1 zCl ([(q6, zII G 12 f), (qr28, zI G (St_n σ (St_ea σ a)) (plV (St_p σ) 1 (v k) (v (k + 1))))]) H29 := hP
                            have hD : va_D (zA (FM G μ σ) H0) ([(q6, zII G 12 f), (qr28, zI G (St_n σ (St_ea σ a)) (plV (St_p σ) 1 (v k) (v (k + 1))))]) := hD
                            have hH1 : HM G s0 μ σ 0 H29 := hH1.ext0 hE hF
                            have hPm : PLM G σ (St_ea σ a) (k + 1 + 1) f r v H29 := hPm.ext0 hF
                            have hS := hS1
                            have hNwqr28 : H0.size ≤ qr28 := Nat.le_trans hsz9 (hN.2.2 0 _ rfl)
                            have hRq := hP 1 _ rfl
                            have hP : va_P G.1 zCl [(q6, zII G 12 f)] H29 := hP.sub [0] rfl
                            have hD : va_D (zA (FM G μ σ) H0) [(q6, zII G 12 f)] := hD.sub [0] (by decide) rfl
                            have hq9 := hP 0 _ rfl
                            refine z_aastIIO hC hP hD hS 0 (k := k) rfl hRq rfl (by omega) (ws' := [(q6, zII G 12 (va_up f k (some qr28)))]) rfl dX3_run_244 (fun H30 locs hP hD hS hZ1 hZ2 => ?_)
                            have hPm : PLM G σ (St_ea σ a) (k + 1) (va_up f k (some qr28)) (fun i => if i = k then qr28 else r i) (va_up v k (plV (St_p σ) (1) (v k) (v (k + 1)))) H30 := hPm.put (by omega) hnk.1 hq9 hZ1 hZ2 hRq (plV_ok hp _ _ _ _)
                            have hH1 : HM G s0 μ σ 0 H30 := hH1.ext hE (zF.one hZ1 hZ2) (fun a9 ha9 _ z => by have := hh.lt hE hO a9 ha9; omega)
                            have hst : stp σ (St_ea σ a) (w9 % 10) (k + 1 + 1) v = some (k + 1, va_up v k (plV (St_p σ) (1) (v k) (v (k + 1)))) := by rw [stp_2 (by omega) (by omega), if_neg (by omega), if_pos (by omega)]
                            refine lv_iload hx hb dX3_run_245 (lv_at hl 4 rfl) ?_
                            refine z_zgt (tgt := 48) hx hb dX3_run_247 (by decide) (by omega) (fun c31 => ?_) (fun c31 => ?_)
                            · have hw0 : w9 / 10 ≠ 0 := by omega
                              have hfd := pw10_0 hwf.1 hw0
                              exact W.widen (by omega) (by omega) (ihlp8 ((f9 - 1)) (by omega) (k + 1) (va_up f k (some qr28)) (fun i => if i = k then qr28 else r i) (va_up v k (plV (St_p σ) (1) (v k) (v (k + 1)))) (w9 / 10) (f9 - 1) rfl (⟨pw10 hwf.2.1 hwf.1, by omega, by have := stp_le hst; omega⟩) (by rw [← hrn]; exact (rnV_go hwf.2.1 hst hw0).symm) (Nat.le_trans (Nat.div_le_self _ _) hwb) _ _ _ hH1 hPm hP hD hS (lv_sub hl [4, 1, 6, 7, 8, 9, 10] rfl))
                            · have hen := rnV_end hwf.2.1 hst (by omega)
                              rw [hrn] at hen
                              refine lv_iload hx hb dX3_run_250 (lv_at hl 1 rfl) ?_
                              refine lv_iconst (v := iI 1) hx hb dX3_run_252 rfl ?_
                              refine z_ceq (tgt := 262) hx hb dX3_run_253 (by decide) (by omega) (fun c32 => ?_) (fun c32 => ?_)
                              · have hm1 : k + 1 = 1 := by omega
                                have hP0 := hPm 0 (by omega)
                                refine lv_aload_n hx hb dX3_run_262 rfl (lv_at hl 8 rfl) ?_
                                refine lv_iload_n hx hb dX3_run_263 rfl (lv_at hl 9 rfl) ?_
                                refine lv_aload_n hx hb dX3_run_264 rfl (lv_at hl 7 rfl) ?_
                                refine lv_aload hx hb dX3_run_265 (lv_at hl 6 rfl) ?_
                                refine lv_iconst (v := iI 0) hx hb dX3_run_267 rfl ?_
                                refine z_aald hC (hP 0 _ rfl) (k := 0) rfl (by omega) (q := ((fun i => if i = k then qr28 else r i) 0)) hP0.1 dX3_run_268 ?_
                                refine lv_iconst (v := iI 1) hx hb dX3_run_269 rfl ?_
                                have hsz9 : H0.size ≤ H30.size := hS.1
                                have hUSt_eaσa := hH1.al (k := St_ea σ a) hea
                                refine z_go (((1 + 4 * (10 - f9)) + 1) + 1) (((12 + 60 * (10 - f9)) + 16) + 16) (z_runV (As := [.ref ((fun i => if i = k then qr28 else r i) 0), .int (iI 1)]) (rest := [.int (iI ((a : Nat) : Int)), .ref (μ (0, 0, 0))]) hC hml hl.1 (m_X6_scaled hE H30 (hO.ext (zS_F hS) hMo) μ σ 0 (St_ea σ a) ((fun i => if i = k then qr28 else r i) 0) ((va_up v k (plV (St_p σ) (1) (v k) (v (k + 1)))) 0) 1 hH1 hea hP0.2.1 hP0.2.2 (by decide)) (lw_V q1694 q1695 q1696 q82 q1697) rfl nd_X6_scaled rfl (z_rv hC (ci := 5) rfl hUSt_eaσa.1 rfl) rfl (Nat.le_of_ble_eq_true rfl) ⟨Nat.le_of_ble_eq_true rfl, Nat.le_of_ble_eq_true rfl⟩ ⟨zfit (k := 1) (z := 200) rfl rfl (by omega), zfit (k := 16) (z := 2000) rfl rfl (by omega)⟩ dX3_run_270) ⟨zad (k := 1) rfl (by omega), zad (k := 16) rfl (by omega)⟩ hS (fun _ z => z.elim) (fun r H34 locs hp hF hS1 => ?_)
                                obtain ⟨qr33, rfl, hN⟩ := hp
                                obtain ⟨hP, hD⟩ := zjn hP hD hS.1 hF hN
                                have hP : va_P G.1 zCl ([(q6, zII G 12 (va_up f k (some qr28))), (qr33, zI G (St_n σ (St_ea σ a)) (scV (St_p σ) 1 ((va_up v k (plV (St_p σ) (1) (v k) (v (k + 1)))) 0)))]) H34 := hP
                                have hD : va_D (zA (FM G μ σ) H0) ([(q6, zII G 12 (va_up f k (some qr28))), (qr33, zI G (St_n σ (St_ea σ a)) (scV (St_p σ) 1 ((va_up v k (plV (St_p σ) (1) (v k) (v (k + 1)))) 0)))]) := hD
                                have hH1 : HM G s0 μ σ 0 H34 := hH1.ext0 hE hF
                                have hS := hS1
                                have hNwqr33 : H0.size ≤ qr33 := Nat.le_trans hsz9 (hN.2.2 0 _ rfl)
                                have hsc9 : ∀ i, i < St_n σ (St_ea σ a) → scV (St_p σ) 1 ((va_up v k (plV (St_p σ) (1) (v k) (v (k + 1)))) 0) i = ((va_up v k (plV (St_p σ) (1) (v k) (v (k + 1)))) 0) i := fun i hi => sc1 hp hP0.2.2 i hi
                                have hP : va_P G.1 zCl ([(q6, zII G 12 (va_up f k (some qr28))), (qr33, zI G (St_n σ (St_ea σ a)) ((va_up v k (plV (St_p σ) (1) (v k) (v (k + 1)))) 0))]) H34 := zcI hP 1 rfl (hsc9)
                                have hD : va_D (zA (FM G μ σ) H0) ([(q6, zII G 12 (va_up f k (some qr28))), (qr33, zI G (St_n σ (St_ea σ a)) ((va_up v k (plV (St_p σ) (1) (v k) (v (k + 1)))) 0))]) := hD.set (p := 1) rfl
                                have hHb := hH1
                                have hRb := hP 1 _ rfl
                                refine z_go (((1 + 4 * (10 - f9)) + 1) + 1) (((12 + 60 * (10 - f9)) + 16) + 16) (z_runV (As := [.int (iI ((a : Nat) : Int)), .ref qr33]) (rest := []) hC hml hl.1 (m_X3_put hE H34 (hO.ext (zS_F hS) hMo) μ σ 0 a qr33 ((va_up v k (plV (St_p σ) (1) (v k) (v (k + 1)))) 0) hHb (by omega) hRb hP0.2.2) (lw_V q1671 q1673 qs39 q67 q1674) rfl nd_X3_put rfl (z_rv hC (ci := 2) rfl hHb.2.2.1.1 rfl) rfl (Nat.le_of_ble_eq_true rfl) ⟨Nat.le_of_ble_eq_true rfl, Nat.le_of_ble_eq_true rfl⟩ ⟨zfit (k := 0) (z := 200) rfl rfl (by omega), zfit (k := 0) (z := 2000) rfl rfl (by omega)⟩ dX3_run_273) ⟨zad (k := 0) rfl (by omega), zad (k := 0) rfl (by omega)⟩ hS (fun z hz => Or.inl (hz ▸ FM.in hE hh.sep (domME 13 a (Or.inl rfl) (by omega)) (by simp [rAm]))) (fun r H35 locs hp hF hS1 => ?_)
                                obtain ⟨_, rfl, rfl, hm9⟩ := hp
                                have hP : va_P G.1 zCl [] H35 := va_nil
                                have hD : va_D (zA (FM G μ σ) H0) [] := va_nilD
                                have hP : va_P G.1 zCl ([]) H35 := hP
                                have hD : va_D (zA (FM G μ σ) H0) ([]) := hD
                                have hS := hS1
                                have hPo : PoM G s0 H0 μ σ (stEl σ a ((va_up v k (plV (St_p σ) (1) (v k) (v (k + 1)))) 0)) 0 H35 := HM.put hE hO hh hHb (by omega) hF hm9 (zAt.ext hRb hF (Ne.symm (z_noArr hE (ci := 7) (t := 0) rfl (hHb.el (j := a) (by omega)).1 rfl hRb))) hNwqr33 hP0.2.2
                                exact z_iret hC hrt hlk hQ hS ⟨zle (z := 200) rfl (by omega), zle (z := 2000) rfl (by omega)⟩ ⟨_, rfl, 0, stEl σ a ((va_up v k (plV (St_p σ) (1) (v k) (v (k + 1)))) 0), hPo, Or.inl ⟨rfl, ⟨a, va_up v k (plV (St_p σ) (1) (v k) (v (k + 1))), ⟨by omega, by omega⟩, by omega, by rw [hWn, hen, hm1], rfl, rfl⟩⟩⟩ dX3_run_276
                              · refine lv_aload_n hx hb dX3_run_256 rfl (lv_at hl 8 rfl) ?_
                                refine lv_iconst (v := iI 2) hx hb dX3_run_257 rfl ?_
                                have hHb := hH1
                                refine z_go ((1 + 4 * (10 - f9)) + 1) ((12 + 60 * (10 - f9)) + 16) (z_runV (As := [.int (iI 2)]) (rest := []) hC hml hl.1 (m_X3_no hE H30 (hO.ext (zS_F hS) hMo) μ σ 0 2 hHb) (lw_V q1520 q1522 qs29 q67 q1523) rfl nd_X3_no rfl (z_rv hC (ci := 2) rfl hHb.2.2.1.1 rfl) rfl (Nat.le_of_ble_eq_true rfl) ⟨Nat.le_of_ble_eq_true rfl, Nat.le_of_ble_eq_true rfl⟩ ⟨zfit (k := 0) (z := 200) rfl rfl (by omega), zfit (k := 0) (z := 2000) rfl rfl (by omega)⟩ dX3_run_258) ⟨zad (k := 0) rfl (by omega), zad (k := 0) rfl (by omega)⟩ hS (fun z hz => Or.inl (hz ▸ FM.in hE hh.sep (domM0 0 (by omega)) (by simp [rAm]))) (fun r H36 locs hp hF hS1 => ?_)
                                obtain ⟨_, rfl, rfl, hx9⟩ := hp
                                have hP : va_P G.1 zCl [] H36 := va_nil
                                have hD : va_D (zA (FM G μ σ) H0) [] := va_nilD
                                have hP : va_P G.1 zCl ([]) H36 := hP
                                have hD : va_D (zA (FM G μ σ) H0) ([]) := hD
                                have hS := hS1
                                have hH9 : HM G s0 μ σ ((2 : Nat) : Int) H36 := HM.thr hE hHb hF hx9
                                exact z_iret hC hrt hlk hQ hS ⟨zle (z := 200) rfl (by omega), zle (z := 2000) rfl (by omega)⟩ ⟨_, rfl, 2, σ, PoM.same hH9, Or.inr ⟨by decide, rfl, by decide, Or.inr ⟨rfl, inE_n (by omega), fun z9 => by obtain ⟨_, v9, e9⟩ := z9; rw [ean, hWn, hen] at e9; injection e9 with e9; injection e9 with e9 _; omega⟩⟩⟩ dX3_run_261
                        · refine lv_aload_n hx hb dX3_run_213 rfl (lv_at hl 7 rfl) ?_
                          refine lv_aload hx hb dX3_run_214 (lv_at hl 0 rfl) ?_
                          refine lv_aload hx hb dX3_run_216 (lv_at hl 2 rfl) ?_
                          have hsz9 : H0.size ≤ H9.size := hS.1
                          have hUSt_eaσa := hH1.al (k := St_ea σ a) hea
                          refine z_go ((1 + 4 * (10 - f9)) + 1) ((12 + 60 * (10 - f9)) + 16) (z_runV (As := [.ref (r k), .ref (r (k + 1))]) (rest := [.int (iI ((k : Nat) : Int)), .ref q6]) hC hml hl.1 (m_X6_times hE H9 (hO.ext (zS_F hS) hMo) μ σ 0 (St_ea σ a) (r k) (v k) (r (k + 1)) (v (k + 1))  hH1 hea hPk.2.1 hPk.2.2 hPj.2.1 hPj.2.2 ) (lw_V q1686 q1687 q1688 q82 q1689) rfl nd_X6_times rfl (z_rv hC (ci := 5) rfl hUSt_eaσa.1 rfl) rfl (Nat.le_of_ble_eq_true rfl) ⟨Nat.le_of_ble_eq_true rfl, Nat.le_of_ble_eq_true rfl⟩ ⟨zfit (k := 1) (z := 200) rfl rfl (by omega), zfit (k := 16) (z := 2000) rfl rfl (by omega)⟩ dX3_run_218) ⟨zad (k := 1) rfl (by omega), zad (k := 16) rfl (by omega)⟩ hS (fun _ z => z.elim) (fun r H38 locs hp hF hS1 => ?_)
                          obtain ⟨qr37, rfl, hN⟩ := hp
                          obtain ⟨hP, hD⟩ := zjn hP hD hS.1 hF hN
                          have hP : va_P G.1 zCl ([(q6, zII G 12 f), (qr37, zI G (St_n σ (St_ea σ a)) (tmV (St_p σ) (St_n σ (St_ea σ a)) (St_sg σ (St_ea σ a)) (v k) (v (k + 1))))]) H38 := hP
                          have hD : va_D (zA (FM G μ σ) H0) ([(q6, zII G 12 f), (qr37, zI G (St_n σ (St_ea σ a)) (tmV (St_p σ) (St_n σ (St_ea σ a)) (St_sg σ (St_ea σ a)) (v k) (v (k + 1))))]) := hD
                          have hH1 : HM G s0 μ σ 0 H38 := hH1.ext0 hE hF
                          have hPm : PLM G σ (St_ea σ a) (k + 1 + 1) f r v H38 := hPm.ext0 hF
                          have hS := hS1
                          refine lv_goto (tgt := 244) hx hb dX3_run_221 (by decide) ?_
                          have hRq := hP 1 _ rfl
                          have hP : va_P G.1 zCl [(q6, zII G 12 f)] H38 := hP.sub [0] rfl
                          have hD : va_D (zA (FM G μ σ) H0) [(q6, zII G 12 f)] := hD.sub [0] (by decide) rfl
                          have hq9 := hP 0 _ rfl
                          refine z_aastIIO hC hP hD hS 0 (k := k) rfl hRq rfl (by omega) (ws' := [(q6, zII G 12 (va_up f k (some qr37)))]) rfl dX3_run_244 (fun H39 locs hP hD hS hZ1 hZ2 => ?_)
                          have hPm : PLM G σ (St_ea σ a) (k + 1) (va_up f k (some qr37)) (fun i => if i = k then qr37 else r i) (va_up v k (tmV (St_p σ) (St_n σ (St_ea σ a)) (St_sg σ (St_ea σ a)) (v k) (v (k + 1)))) H39 := hPm.put (by omega) hnk.1 hq9 hZ1 hZ2 hRq (tmV_ok hp _ _ _ _)
                          have hH1 : HM G s0 μ σ 0 H39 := hH1.ext hE (zF.one hZ1 hZ2) (fun a9 ha9 _ z => by have := hh.lt hE hO a9 ha9; omega)
                          have hst : stp σ (St_ea σ a) (w9 % 10) (k + 1 + 1) v = some (k + 1, va_up v k (tmV (St_p σ) (St_n σ (St_ea σ a)) (St_sg σ (St_ea σ a)) (v k) (v (k + 1)))) := by rw [stp_2 (by omega) (by omega), if_pos (by omega)]
                          refine lv_iload hx hb dX3_run_245 (lv_at hl 4 rfl) ?_
                          refine z_zgt (tgt := 48) hx hb dX3_run_247 (by decide) (by omega) (fun c40 => ?_) (fun c40 => ?_)
                          · have hw0 : w9 / 10 ≠ 0 := by omega
                            have hfd := pw10_0 hwf.1 hw0
                            exact W.widen (by omega) (by omega) (ihlp8 ((f9 - 1)) (by omega) (k + 1) (va_up f k (some qr37)) (fun i => if i = k then qr37 else r i) (va_up v k (tmV (St_p σ) (St_n σ (St_ea σ a)) (St_sg σ (St_ea σ a)) (v k) (v (k + 1)))) (w9 / 10) (f9 - 1) rfl (⟨pw10 hwf.2.1 hwf.1, by omega, by have := stp_le hst; omega⟩) (by rw [← hrn]; exact (rnV_go hwf.2.1 hst hw0).symm) (Nat.le_trans (Nat.div_le_self _ _) hwb) _ _ _ hH1 hPm hP hD hS (lv_sub hl [4, 1, 6, 7, 8, 9, 10] rfl))
                          · have hen := rnV_end hwf.2.1 hst (by omega)
                            rw [hrn] at hen
                            refine lv_iload hx hb dX3_run_250 (lv_at hl 1 rfl) ?_
                            refine lv_iconst (v := iI 1) hx hb dX3_run_252 rfl ?_
                            refine z_ceq (tgt := 262) hx hb dX3_run_253 (by decide) (by omega) (fun c41 => ?_) (fun c41 => ?_)
                            · have hm1 : k + 1 = 1 := by omega
                              have hP0 := hPm 0 (by omega)
                              refine lv_aload_n hx hb dX3_run_262 rfl (lv_at hl 8 rfl) ?_
                              refine lv_iload_n hx hb dX3_run_263 rfl (lv_at hl 9 rfl) ?_
                              refine lv_aload_n hx hb dX3_run_264 rfl (lv_at hl 7 rfl) ?_
                              refine lv_aload hx hb dX3_run_265 (lv_at hl 6 rfl) ?_
                              refine lv_iconst (v := iI 0) hx hb dX3_run_267 rfl ?_
                              refine z_aald hC (hP 0 _ rfl) (k := 0) rfl (by omega) (q := ((fun i => if i = k then qr37 else r i) 0)) hP0.1 dX3_run_268 ?_
                              refine lv_iconst (v := iI 1) hx hb dX3_run_269 rfl ?_
                              have hsz9 : H0.size ≤ H39.size := hS.1
                              have hUSt_eaσa := hH1.al (k := St_ea σ a) hea
                              refine z_go (((1 + 4 * (10 - f9)) + 1) + 1) (((12 + 60 * (10 - f9)) + 16) + 16) (z_runV (As := [.ref ((fun i => if i = k then qr37 else r i) 0), .int (iI 1)]) (rest := [.int (iI ((a : Nat) : Int)), .ref (μ (0, 0, 0))]) hC hml hl.1 (m_X6_scaled hE H39 (hO.ext (zS_F hS) hMo) μ σ 0 (St_ea σ a) ((fun i => if i = k then qr37 else r i) 0) ((va_up v k (tmV (St_p σ) (St_n σ (St_ea σ a)) (St_sg σ (St_ea σ a)) (v k) (v (k + 1)))) 0) 1 hH1 hea hP0.2.1 hP0.2.2 (by decide)) (lw_V q1694 q1695 q1696 q82 q1697) rfl nd_X6_scaled rfl (z_rv hC (ci := 5) rfl hUSt_eaσa.1 rfl) rfl (Nat.le_of_ble_eq_true rfl) ⟨Nat.le_of_ble_eq_true rfl, Nat.le_of_ble_eq_true rfl⟩ ⟨zfit (k := 1) (z := 200) rfl rfl (by omega), zfit (k := 16) (z := 2000) rfl rfl (by omega)⟩ dX3_run_270) ⟨zad (k := 1) rfl (by omega), zad (k := 16) rfl (by omega)⟩ hS (fun _ z => z.elim) (fun r H43 locs hp hF hS1 => ?_)
                              obtain ⟨qr42, rfl, hN⟩ := hp
                              obtain ⟨hP, hD⟩ := zjn hP hD hS.1 hF hN
                              have hP : va_P G.1 zCl ([(q6, zII G 12 (va_up f k (some qr37))), (qr42, zI G (St_n σ (St_ea σ a)) (scV (St_p σ) 1 ((va_up v k (tmV (St_p σ) (St_n σ (St_ea σ a)) (St_sg σ (St_ea σ a)) (v k) (v (k + 1)))) 0)))]) H43 := hP
                              have hD : va_D (zA (FM G μ σ) H0) ([(q6, zII G 12 (va_up f k (some qr37))), (qr42, zI G (St_n σ (St_ea σ a)) (scV (St_p σ) 1 ((va_up v k (tmV (St_p σ) (St_n σ (St_ea σ a)) (St_sg σ (St_ea σ a)) (v k) (v (k + 1)))) 0)))]) := hD
                              have hH1 : HM G s0 μ σ 0 H43 := hH1.ext0 hE hF
                              have hS := hS1
                              have hNwqr42 : H0.size ≤ qr42 := Nat.le_trans hsz9 (hN.2.2 0 _ rfl)
                              have hsc9 : ∀ i, i < St_n σ (St_ea σ a) → scV (St_p σ) 1 ((va_up v k (tmV (St_p σ) (St_n σ (St_ea σ a)) (St_sg σ (St_ea σ a)) (v k) (v (k + 1)))) 0) i = ((va_up v k (tmV (St_p σ) (St_n σ (St_ea σ a)) (St_sg σ (St_ea σ a)) (v k) (v (k + 1)))) 0) i := fun i hi => sc1 hp hP0.2.2 i hi
                              have hP : va_P G.1 zCl ([(q6, zII G 12 (va_up f k (some qr37))), (qr42, zI G (St_n σ (St_ea σ a)) ((va_up v k (tmV (St_p σ) (St_n σ (St_ea σ a)) (St_sg σ (St_ea σ a)) (v k) (v (k + 1)))) 0))]) H43 := zcI hP 1 rfl (hsc9)
                              have hD : va_D (zA (FM G μ σ) H0) ([(q6, zII G 12 (va_up f k (some qr37))), (qr42, zI G (St_n σ (St_ea σ a)) ((va_up v k (tmV (St_p σ) (St_n σ (St_ea σ a)) (St_sg σ (St_ea σ a)) (v k) (v (k + 1)))) 0))]) := hD.set (p := 1) rfl
                              have hHb := hH1
                              have hRb := hP 1 _ rfl
                              refine z_go (((1 + 4 * (10 - f9)) + 1) + 1) (((12 + 60 * (10 - f9)) + 16) + 16) (z_runV (As := [.int (iI ((a : Nat) : Int)), .ref qr42]) (rest := []) hC hml hl.1 (m_X3_put hE H43 (hO.ext (zS_F hS) hMo) μ σ 0 a qr42 ((va_up v k (tmV (St_p σ) (St_n σ (St_ea σ a)) (St_sg σ (St_ea σ a)) (v k) (v (k + 1)))) 0) hHb (by omega) hRb hP0.2.2) (lw_V q1671 q1673 qs39 q67 q1674) rfl nd_X3_put rfl (z_rv hC (ci := 2) rfl hHb.2.2.1.1 rfl) rfl (Nat.le_of_ble_eq_true rfl) ⟨Nat.le_of_ble_eq_true rfl, Nat.le_of_ble_eq_true rfl⟩ ⟨zfit (k := 0) (z := 200) rfl rfl (by omega), zfit (k := 0) (z := 2000) rfl rfl (by omega)⟩ dX3_run_273) ⟨zad (k := 0) rfl (by omega), zad (k := 0) rfl (by omega)⟩ hS (fun z hz => Or.inl (hz ▸ FM.in hE hh.sep (domME 13 a (Or.inl rfl) (by omega)) (by simp [rAm]))) (fun r H44 locs hp hF hS1 => ?_)
                              obtain ⟨_, rfl, rfl, hm9⟩ := hp
                              have hP : va_P G.1 zCl [] H44 := va_nil
                              have hD : va_D (zA (FM G μ σ) H0) [] := va_nilD
                              have hP : va_P G.1 zCl ([]) H44 := hP
                              have hD : va_D (zA (FM G μ σ) H0) ([]) := hD
                              have hS := hS1
                              have hPo : PoM G s0 H0 μ σ (stEl σ a ((va_up v k (tmV (St_p σ) (St_n σ (St_ea σ a)) (St_sg σ (St_ea σ a)) (v k) (v (k + 1)))) 0)) 0 H44 := HM.put hE hO hh hHb (by omega) hF hm9 (zAt.ext hRb hF (Ne.symm (z_noArr hE (ci := 7) (t := 0) rfl (hHb.el (j := a) (by omega)).1 rfl hRb))) hNwqr42 hP0.2.2
                              exact z_iret hC hrt hlk hQ hS ⟨zle (z := 200) rfl (by omega), zle (z := 2000) rfl (by omega)⟩ ⟨_, rfl, 0, stEl σ a ((va_up v k (tmV (St_p σ) (St_n σ (St_ea σ a)) (St_sg σ (St_ea σ a)) (v k) (v (k + 1)))) 0), hPo, Or.inl ⟨rfl, ⟨a, va_up v k (tmV (St_p σ) (St_n σ (St_ea σ a)) (St_sg σ (St_ea σ a)) (v k) (v (k + 1))), ⟨by omega, by omega⟩, by omega, by rw [hWn, hen, hm1], rfl, rfl⟩⟩⟩ dX3_run_276
                            · refine lv_aload_n hx hb dX3_run_256 rfl (lv_at hl 8 rfl) ?_
                              refine lv_iconst (v := iI 2) hx hb dX3_run_257 rfl ?_
                              have hHb := hH1
                              refine z_go ((1 + 4 * (10 - f9)) + 1) ((12 + 60 * (10 - f9)) + 16) (z_runV (As := [.int (iI 2)]) (rest := []) hC hml hl.1 (m_X3_no hE H39 (hO.ext (zS_F hS) hMo) μ σ 0 2 hHb) (lw_V q1520 q1522 qs29 q67 q1523) rfl nd_X3_no rfl (z_rv hC (ci := 2) rfl hHb.2.2.1.1 rfl) rfl (Nat.le_of_ble_eq_true rfl) ⟨Nat.le_of_ble_eq_true rfl, Nat.le_of_ble_eq_true rfl⟩ ⟨zfit (k := 0) (z := 200) rfl rfl (by omega), zfit (k := 0) (z := 2000) rfl rfl (by omega)⟩ dX3_run_258) ⟨zad (k := 0) rfl (by omega), zad (k := 0) rfl (by omega)⟩ hS (fun z hz => Or.inl (hz ▸ FM.in hE hh.sep (domM0 0 (by omega)) (by simp [rAm]))) (fun r H45 locs hp hF hS1 => ?_)
                              obtain ⟨_, rfl, rfl, hx9⟩ := hp
                              have hP : va_P G.1 zCl [] H45 := va_nil
                              have hD : va_D (zA (FM G μ σ) H0) [] := va_nilD
                              have hP : va_P G.1 zCl ([]) H45 := hP
                              have hD : va_D (zA (FM G μ σ) H0) ([]) := hD
                              have hS := hS1
                              have hH9 : HM G s0 μ σ ((2 : Nat) : Int) H45 := HM.thr hE hHb hF hx9
                              exact z_iret hC hrt hlk hQ hS ⟨zle (z := 200) rfl (by omega), zle (z := 2000) rfl (by omega)⟩ ⟨_, rfl, 2, σ, PoM.same hH9, Or.inr ⟨by decide, rfl, by decide, Or.inr ⟨rfl, inE_n (by omega), fun z9 => by obtain ⟨_, v9, e9⟩ := z9; rw [ean, hWn, hen] at e9; injection e9 with e9; injection e9 with e9 _; omega⟩⟩⟩ dX3_run_261
                      · omega
                    · omega
                  · rcases (show n = 0 ∨ n = 1 by omega) with hn0 | hn0
                    · refine lv_aload_n hx hb dX3_run_126 rfl (lv_at hl 6 rfl) ?_
                      refine lv_iconst (v := iI 2) hx hb dX3_run_127 rfl ?_
                      have hHb := hH1
                      refine z_go (1 + 4 * (10 - f9)) (12 + 60 * (10 - f9)) (z_runV (As := [.int (iI 2)]) (rest := []) hC hml hl.1 (m_X3_no hE H9 (hO.ext (zS_F hS) hMo) μ σ 0 2 hHb) (lw_V q1520 q1522 qs29 q67 q1523) rfl nd_X3_no rfl (z_rv hC (ci := 2) rfl hHb.2.2.1.1 rfl) rfl (Nat.le_of_ble_eq_true rfl) ⟨Nat.le_of_ble_eq_true rfl, Nat.le_of_ble_eq_true rfl⟩ ⟨zfit (k := 0) (z := 200) rfl rfl (by omega), zfit (k := 0) (z := 2000) rfl rfl (by omega)⟩ dX3_run_128) ⟨zad (k := 0) rfl (by omega), zad (k := 0) rfl (by omega)⟩ hS (fun z hz => Or.inl (hz ▸ FM.in hE hh.sep (domM0 0 (by omega)) (by simp [rAm]))) (fun r H46 locs hp hF hS1 => ?_)
                      obtain ⟨_, rfl, rfl, hx9⟩ := hp
                      have hP : va_P G.1 zCl [] H46 := va_nil
                      have hD : va_D (zA (FM G μ σ) H0) [] := va_nilD
                      have hP : va_P G.1 zCl ([]) H46 := hP
                      have hD : va_D (zA (FM G μ σ) H0) ([]) := hD
                      have hS := hS1
                      have hH9 : HM G s0 μ σ ((2 : Nat) : Int) H46 := HM.thr hE hHb hF hx9
                      exact z_iret hC hrt hlk hQ hS ⟨zle (z := 200) rfl (by omega), zle (z := 2000) rfl (by omega)⟩ ⟨_, rfl, 2, σ, PoM.same hH9, Or.inr ⟨by decide, rfl, by decide, Or.inr ⟨rfl, inE_n (by omega), fun z9 => by obtain ⟨_, v9, e9⟩ := z9; rw [ean, hWn, ← hrn, rnV_none (by rw [hn0]; exact stp_0 (by omega))] at e9; cases e9⟩⟩⟩ dX3_run_131
                    · refine lv_aload_n hx hb dX3_run_126 rfl (lv_at hl 6 rfl) ?_
                      refine lv_iconst (v := iI 2) hx hb dX3_run_127 rfl ?_
                      have hHb := hH1
                      refine z_go (1 + 4 * (10 - f9)) (12 + 60 * (10 - f9)) (z_runV (As := [.int (iI 2)]) (rest := []) hC hml hl.1 (m_X3_no hE H9 (hO.ext (zS_F hS) hMo) μ σ 0 2 hHb) (lw_V q1520 q1522 qs29 q67 q1523) rfl nd_X3_no rfl (z_rv hC (ci := 2) rfl hHb.2.2.1.1 rfl) rfl (Nat.le_of_ble_eq_true rfl) ⟨Nat.le_of_ble_eq_true rfl, Nat.le_of_ble_eq_true rfl⟩ ⟨zfit (k := 0) (z := 200) rfl rfl (by omega), zfit (k := 0) (z := 2000) rfl rfl (by omega)⟩ dX3_run_128) ⟨zad (k := 0) rfl (by omega), zad (k := 0) rfl (by omega)⟩ hS (fun z hz => Or.inl (hz ▸ FM.in hE hh.sep (domM0 0 (by omega)) (by simp [rAm]))) (fun r H47 locs hp hF hS1 => ?_)
                      obtain ⟨_, rfl, rfl, hx9⟩ := hp
                      have hP : va_P G.1 zCl [] H47 := va_nil
                      have hD : va_D (zA (FM G μ σ) H0) [] := va_nilD
                      have hP : va_P G.1 zCl ([]) H47 := hP
                      have hD : va_D (zA (FM G μ σ) H0) ([]) := hD
                      have hS := hS1
                      have hH9 : HM G s0 μ σ ((2 : Nat) : Int) H47 := HM.thr hE hHb hF hx9
                      exact z_iret hC hrt hlk hQ hS ⟨zle (z := 200) rfl (by omega), zle (z := 2000) rfl (by omega)⟩ ⟨_, rfl, 2, σ, PoM.same hH9, Or.inr ⟨by decide, rfl, by decide, Or.inr ⟨rfl, inE_n (by omega), fun z9 => by obtain ⟨_, v9, e9⟩ := z9; rw [ean, hWn, ← hrn, rnV_none (by rw [hn0]; exact stp_1 (by omega) (by omega))] at e9; cases e9⟩⟩⟩ dX3_run_131
              · refine lv_iconst (v := iI 1) hx hb dX3_run_108 rfl ?_
                refine lv_goto (tgt := 123) hx hb dX3_run_109 (by decide) ?_
                refine z_cge (tgt := 132) hx hb dX3_run_123 (by decide) (by omega) (fun c48 => ?_) (fun c48 => ?_)
                · obtain ⟨k, hk⟩ : ∃ k, n = k + 1 := ⟨n - 1, by omega⟩
                  subst hk
                  have hPk := hPm k (by omega)
                  refine lv_iload hx hb dX3_run_132 (lv_at hl 2 rfl) ?_
                  refine lv_bipush (v := iI 6) hx hb dX3_run_134 (by decide) ?_
                  refine z_cge (tgt := 156) hx hb dX3_run_136 (by decide) (by omega) (fun c49 => ?_) (fun c49 => ?_)
                  · refine lv_aload hx hb dX3_run_156 (lv_at hl 4 rfl) ?_
                    refine lv_iload hx hb dX3_run_158 (lv_at hl 3 rfl) ?_
                    refine lv_iconst (v := iI 1) hx hb dX3_run_160 rfl ?_
                    refine z_sub hx hb (z := ((k + 1 : Nat) : Int) - 1) dX3_run_161 rfl ?_
                    refine z_top (b := ((k : Nat) : Int)) (by omega) ?_
                    refine z_aald hC (hP 0 _ rfl) (k := k) rfl (by omega) (q := (r k)) hPk.1 dX3_run_162 ?_
                    refine lv_astore (lv' := [(9, .ref (r k)), (8, .int (iI 1)), (6, .int (iI ((w9 / 10 : Nat) : Int))), (7, .int (iI ((w9 % 10 : Nat) : Int))), (5, .int (iI ((k + 1 : Nat) : Int))), (4, .ref q6), (3, .ref (μ (6, St_ea σ a, 0))), (0, .ref (μ (0, 0, 0))), (1, .int (iI ((a : Nat) : Int))), (2, .int (iI ((W9 : Nat) : Int)))]) hx hb dX3_run_163 hl (by decide) rfl (fun ls hl => ?_)
                    refine lv_iload hx hb dX3_run_165 (lv_at hl 3 rfl) ?_
                    refine lv_bipush (v := iI 9) hx hb dX3_run_167 (by decide) ?_
                    refine z_cne (tgt := 188) hx hb dX3_run_169 (by decide) (by omega) (fun c50 => ?_) (fun c50 => ?_)
                    · omega
                    · refine lv_aload hx hb dX3_run_172 (lv_at hl 5 rfl) ?_
                      refine lv_iload hx hb dX3_run_174 (lv_at hl 4 rfl) ?_
                      refine lv_iconst (v := iI 1) hx hb dX3_run_176 rfl ?_
                      refine z_sub hx hb (z := ((k + 1 : Nat) : Int) - 1) dX3_run_177 rfl ?_
                      refine z_top (b := ((k : Nat) : Int)) (by omega) ?_
                      refine lv_aload_n hx hb dX3_run_178 rfl (lv_at hl 6 rfl) ?_
                      refine lv_aload hx hb dX3_run_179 (lv_at hl 0 rfl) ?_
                      have hsz9 : H0.size ≤ H9.size := hS.1
                      have hUSt_eaσa := hH1.al (k := St_ea σ a) hea
                      refine z_go ((1 + 4 * (10 - f9)) + 1) ((12 + 60 * (10 - f9)) + 16) (z_runV (As := [.ref (r k)]) (rest := [.int (iI ((k : Nat) : Int)), .ref q6]) hC hml hl.1 (m_X6_conjugated hE H9 (hO.ext (zS_F hS) hMo) μ σ 0 (St_ea σ a) (r k) (v k)  hH1 hea hPk.2.1 hPk.2.2 ) (lw_V q1702 q1703 q1704 q82 q1705) rfl nd_X6_conjugated rfl (z_rv hC (ci := 5) rfl hUSt_eaσa.1 rfl) rfl (Nat.le_of_ble_eq_true rfl) ⟨Nat.le_of_ble_eq_true rfl, Nat.le_of_ble_eq_true rfl⟩ ⟨zfit (k := 1) (z := 200) rfl rfl (by omega), zfit (k := 16) (z := 2000) rfl rfl (by omega)⟩ dX3_run_181) ⟨zad (k := 1) rfl (by omega), zad (k := 16) rfl (by omega)⟩ hS (fun _ z => z.elim) (fun r H52 locs hp hF hS1 => ?_)
                      obtain ⟨qr51, rfl, hN⟩ := hp
                      obtain ⟨hP, hD⟩ := zjn hP hD hS.1 hF hN
                      have hP : va_P G.1 zCl ([(q6, zII G 12 f), (qr51, zI G (St_n σ (St_ea σ a)) (cjV (St_p σ) (St_kd σ (St_ea σ a)) (v k)))]) H52 := hP
                      have hD : va_D (zA (FM G μ σ) H0) ([(q6, zII G 12 f), (qr51, zI G (St_n σ (St_ea σ a)) (cjV (St_p σ) (St_kd σ (St_ea σ a)) (v k)))]) := hD
                      have hH1 : HM G s0 μ σ 0 H52 := hH1.ext0 hE hF
                      have hPm : PLM G σ (St_ea σ a) (k + 1) f r v H52 := hPm.ext0 hF
                      have hS := hS1
                      have hRq := hP 1 _ rfl
                      have hP : va_P G.1 zCl [(q6, zII G 12 f)] H52 := hP.sub [0] rfl
                      have hD : va_D (zA (FM G μ σ) H0) [(q6, zII G 12 f)] := hD.sub [0] (by decide) rfl
                      have hq9 := hP 0 _ rfl
                      refine z_aastIIO hC hP hD hS 0 (k := k) rfl hRq rfl (by omega) (ws' := [(q6, zII G 12 (va_up f k (some qr51)))]) rfl dX3_run_184 (fun H53 locs hP hD hS hZ1 hZ2 => ?_)
                      have hPm : PLM G σ (St_ea σ a) (k + 1) (va_up f k (some qr51)) (fun i => if i = k then qr51 else r i) (va_up v k (cjV (St_p σ) (St_kd σ (St_ea σ a)) (v k))) H53 := hPm.put (by omega) hnk.1 hq9 hZ1 hZ2 hRq (cjV_ok hp _ _ _)
                      have hH1 : HM G s0 μ σ 0 H53 := hH1.ext hE (zF.one hZ1 hZ2) (fun a9 ha9 _ z => by have := hh.lt hE hO a9 ha9; omega)
                      have hst : stp σ (St_ea σ a) (w9 % 10) (k + 1) v = some (k + 1, va_up v k (cjV (St_p σ) (St_kd σ (St_ea σ a)) (v k))) := stp_9 (by omega)
                      refine lv_goto (tgt := 245) hx hb dX3_run_185 (by decide) ?_
                      refine lv_iload hx hb dX3_run_245 (lv_at hl 2 rfl) ?_
                      refine z_zgt (tgt := 48) hx hb dX3_run_247 (by decide) (by omega) (fun c54 => ?_) (fun c54 => ?_)
                      · have hw0 : w9 / 10 ≠ 0 := by omega
                        have hfd := pw10_0 hwf.1 hw0
                        exact W.widen (by omega) (by omega) (ihlp8 ((f9 - 1)) (by omega) (k + 1) (va_up f k (some qr51)) (fun i => if i = k then qr51 else r i) (va_up v k (cjV (St_p σ) (St_kd σ (St_ea σ a)) (v k))) (w9 / 10) (f9 - 1) rfl (⟨pw10 hwf.2.1 hwf.1, by omega, by have := stp_le hst; omega⟩) (by rw [← hrn]; exact (rnV_go hwf.2.1 hst hw0).symm) (Nat.le_trans (Nat.div_le_self _ _) hwb) _ _ _ hH1 hPm hP hD hS (lv_sub hl [2, 4, 5, 6, 7, 8, 9] rfl))
                      · have hen := rnV_end hwf.2.1 hst (by omega)
                        rw [hrn] at hen
                        refine lv_iload hx hb dX3_run_250 (lv_at hl 4 rfl) ?_
                        refine lv_iconst (v := iI 1) hx hb dX3_run_252 rfl ?_
                        refine z_ceq (tgt := 262) hx hb dX3_run_253 (by decide) (by omega) (fun c55 => ?_) (fun c55 => ?_)
                        · have hm1 : k + 1 = 1 := by omega
                          have hP0 := hPm 0 (by omega)
                          refine lv_aload_n hx hb dX3_run_262 rfl (lv_at hl 7 rfl) ?_
                          refine lv_iload_n hx hb dX3_run_263 rfl (lv_at hl 8 rfl) ?_
                          refine lv_aload_n hx hb dX3_run_264 rfl (lv_at hl 6 rfl) ?_
                          refine lv_aload hx hb dX3_run_265 (lv_at hl 5 rfl) ?_
                          refine lv_iconst (v := iI 0) hx hb dX3_run_267 rfl ?_
                          refine z_aald hC (hP 0 _ rfl) (k := 0) rfl (by omega) (q := ((fun i => if i = k then qr51 else r i) 0)) hP0.1 dX3_run_268 ?_
                          refine lv_iconst (v := iI 1) hx hb dX3_run_269 rfl ?_
                          have hsz9 : H0.size ≤ H53.size := hS.1
                          have hUSt_eaσa := hH1.al (k := St_ea σ a) hea
                          refine z_go (((1 + 4 * (10 - f9)) + 1) + 1) (((12 + 60 * (10 - f9)) + 16) + 16) (z_runV (As := [.ref ((fun i => if i = k then qr51 else r i) 0), .int (iI 1)]) (rest := [.int (iI ((a : Nat) : Int)), .ref (μ (0, 0, 0))]) hC hml hl.1 (m_X6_scaled hE H53 (hO.ext (zS_F hS) hMo) μ σ 0 (St_ea σ a) ((fun i => if i = k then qr51 else r i) 0) ((va_up v k (cjV (St_p σ) (St_kd σ (St_ea σ a)) (v k))) 0) 1 hH1 hea hP0.2.1 hP0.2.2 (by decide)) (lw_V q1694 q1695 q1696 q82 q1697) rfl nd_X6_scaled rfl (z_rv hC (ci := 5) rfl hUSt_eaσa.1 rfl) rfl (Nat.le_of_ble_eq_true rfl) ⟨Nat.le_of_ble_eq_true rfl, Nat.le_of_ble_eq_true rfl⟩ ⟨zfit (k := 1) (z := 200) rfl rfl (by omega), zfit (k := 16) (z := 2000) rfl rfl (by omega)⟩ dX3_run_270) ⟨zad (k := 1) rfl (by omega), zad (k := 16) rfl (by omega)⟩ hS (fun _ z => z.elim) (fun r H57 locs hp hF hS1 => ?_)
                          obtain ⟨qr56, rfl, hN⟩ := hp
                          obtain ⟨hP, hD⟩ := zjn hP hD hS.1 hF hN
                          have hP : va_P G.1 zCl ([(q6, zII G 12 (va_up f k (some qr51))), (qr56, zI G (St_n σ (St_ea σ a)) (scV (St_p σ) 1 ((va_up v k (cjV (St_p σ) (St_kd σ (St_ea σ a)) (v k))) 0)))]) H57 := hP
                          have hD : va_D (zA (FM G μ σ) H0) ([(q6, zII G 12 (va_up f k (some qr51))), (qr56, zI G (St_n σ (St_ea σ a)) (scV (St_p σ) 1 ((va_up v k (cjV (St_p σ) (St_kd σ (St_ea σ a)) (v k))) 0)))]) := hD
                          have hH1 : HM G s0 μ σ 0 H57 := hH1.ext0 hE hF
                          have hS := hS1
                          have hNwqr56 : H0.size ≤ qr56 := Nat.le_trans hsz9 (hN.2.2 0 _ rfl)
                          have hsc9 : ∀ i, i < St_n σ (St_ea σ a) → scV (St_p σ) 1 ((va_up v k (cjV (St_p σ) (St_kd σ (St_ea σ a)) (v k))) 0) i = ((va_up v k (cjV (St_p σ) (St_kd σ (St_ea σ a)) (v k))) 0) i := fun i hi => sc1 hp hP0.2.2 i hi
                          have hP : va_P G.1 zCl ([(q6, zII G 12 (va_up f k (some qr51))), (qr56, zI G (St_n σ (St_ea σ a)) ((va_up v k (cjV (St_p σ) (St_kd σ (St_ea σ a)) (v k))) 0))]) H57 := zcI hP 1 rfl (hsc9)
                          have hD : va_D (zA (FM G μ σ) H0) ([(q6, zII G 12 (va_up f k (some qr51))), (qr56, zI G (St_n σ (St_ea σ a)) ((va_up v k (cjV (St_p σ) (St_kd σ (St_ea σ a)) (v k))) 0))]) := hD.set (p := 1) rfl
                          have hHb := hH1
                          have hRb := hP 1 _ rfl
                          refine z_go (((1 + 4 * (10 - f9)) + 1) + 1) (((12 + 60 * (10 - f9)) + 16) + 16) (z_runV (As := [.int (iI ((a : Nat) : Int)), .ref qr56]) (rest := []) hC hml hl.1 (m_X3_put hE H57 (hO.ext (zS_F hS) hMo) μ σ 0 a qr56 ((va_up v k (cjV (St_p σ) (St_kd σ (St_ea σ a)) (v k))) 0) hHb (by omega) hRb hP0.2.2) (lw_V q1671 q1673 qs39 q67 q1674) rfl nd_X3_put rfl (z_rv hC (ci := 2) rfl hHb.2.2.1.1 rfl) rfl (Nat.le_of_ble_eq_true rfl) ⟨Nat.le_of_ble_eq_true rfl, Nat.le_of_ble_eq_true rfl⟩ ⟨zfit (k := 0) (z := 200) rfl rfl (by omega), zfit (k := 0) (z := 2000) rfl rfl (by omega)⟩ dX3_run_273) ⟨zad (k := 0) rfl (by omega), zad (k := 0) rfl (by omega)⟩ hS (fun z hz => Or.inl (hz ▸ FM.in hE hh.sep (domME 13 a (Or.inl rfl) (by omega)) (by simp [rAm]))) (fun r H58 locs hp hF hS1 => ?_)
                          obtain ⟨_, rfl, rfl, hm9⟩ := hp
                          have hP : va_P G.1 zCl [] H58 := va_nil
                          have hD : va_D (zA (FM G μ σ) H0) [] := va_nilD
                          have hP : va_P G.1 zCl ([]) H58 := hP
                          have hD : va_D (zA (FM G μ σ) H0) ([]) := hD
                          have hS := hS1
                          have hPo : PoM G s0 H0 μ σ (stEl σ a ((va_up v k (cjV (St_p σ) (St_kd σ (St_ea σ a)) (v k))) 0)) 0 H58 := HM.put hE hO hh hHb (by omega) hF hm9 (zAt.ext hRb hF (Ne.symm (z_noArr hE (ci := 7) (t := 0) rfl (hHb.el (j := a) (by omega)).1 rfl hRb))) hNwqr56 hP0.2.2
                          exact z_iret hC hrt hlk hQ hS ⟨zle (z := 200) rfl (by omega), zle (z := 2000) rfl (by omega)⟩ ⟨_, rfl, 0, stEl σ a ((va_up v k (cjV (St_p σ) (St_kd σ (St_ea σ a)) (v k))) 0), hPo, Or.inl ⟨rfl, ⟨a, va_up v k (cjV (St_p σ) (St_kd σ (St_ea σ a)) (v k)), ⟨by omega, by omega⟩, by omega, by rw [hWn, hen, hm1], rfl, rfl⟩⟩⟩ dX3_run_276
                        · refine lv_aload_n hx hb dX3_run_256 rfl (lv_at hl 7 rfl) ?_
                          refine lv_iconst (v := iI 2) hx hb dX3_run_257 rfl ?_
                          have hHb := hH1
                          refine z_go ((1 + 4 * (10 - f9)) + 1) ((12 + 60 * (10 - f9)) + 16) (z_runV (As := [.int (iI 2)]) (rest := []) hC hml hl.1 (m_X3_no hE H53 (hO.ext (zS_F hS) hMo) μ σ 0 2 hHb) (lw_V q1520 q1522 qs29 q67 q1523) rfl nd_X3_no rfl (z_rv hC (ci := 2) rfl hHb.2.2.1.1 rfl) rfl (Nat.le_of_ble_eq_true rfl) ⟨Nat.le_of_ble_eq_true rfl, Nat.le_of_ble_eq_true rfl⟩ ⟨zfit (k := 0) (z := 200) rfl rfl (by omega), zfit (k := 0) (z := 2000) rfl rfl (by omega)⟩ dX3_run_258) ⟨zad (k := 0) rfl (by omega), zad (k := 0) rfl (by omega)⟩ hS (fun z hz => Or.inl (hz ▸ FM.in hE hh.sep (domM0 0 (by omega)) (by simp [rAm]))) (fun r H59 locs hp hF hS1 => ?_)
                          obtain ⟨_, rfl, rfl, hx9⟩ := hp
                          have hP : va_P G.1 zCl [] H59 := va_nil
                          have hD : va_D (zA (FM G μ σ) H0) [] := va_nilD
                          have hP : va_P G.1 zCl ([]) H59 := hP
                          have hD : va_D (zA (FM G μ σ) H0) ([]) := hD
                          have hS := hS1
                          have hH9 : HM G s0 μ σ ((2 : Nat) : Int) H59 := HM.thr hE hHb hF hx9
                          exact z_iret hC hrt hlk hQ hS ⟨zle (z := 200) rfl (by omega), zle (z := 2000) rfl (by omega)⟩ ⟨_, rfl, 2, σ, PoM.same hH9, Or.inr ⟨by decide, rfl, by decide, Or.inr ⟨rfl, inE_n (by omega), fun z9 => by obtain ⟨_, v9, e9⟩ := z9; rw [ean, hWn, hen] at e9; injection e9 with e9; injection e9 with e9 _; omega⟩⟩⟩ dX3_run_261
                  · omega
                · have hn0 : n = 0 := by omega
                  refine lv_aload_n hx hb dX3_run_126 rfl (lv_at hl 6 rfl) ?_
                  refine lv_iconst (v := iI 2) hx hb dX3_run_127 rfl ?_
                  have hHb := hH1
                  refine z_go (1 + 4 * (10 - f9)) (12 + 60 * (10 - f9)) (z_runV (As := [.int (iI 2)]) (rest := []) hC hml hl.1 (m_X3_no hE H9 (hO.ext (zS_F hS) hMo) μ σ 0 2 hHb) (lw_V q1520 q1522 qs29 q67 q1523) rfl nd_X3_no rfl (z_rv hC (ci := 2) rfl hHb.2.2.1.1 rfl) rfl (Nat.le_of_ble_eq_true rfl) ⟨Nat.le_of_ble_eq_true rfl, Nat.le_of_ble_eq_true rfl⟩ ⟨zfit (k := 0) (z := 200) rfl rfl (by omega), zfit (k := 0) (z := 2000) rfl rfl (by omega)⟩ dX3_run_128) ⟨zad (k := 0) rfl (by omega), zad (k := 0) rfl (by omega)⟩ hS (fun z hz => Or.inl (hz ▸ FM.in hE hh.sep (domM0 0 (by omega)) (by simp [rAm]))) (fun r H60 locs hp hF hS1 => ?_)
                  obtain ⟨_, rfl, rfl, hx9⟩ := hp
                  have hP : va_P G.1 zCl [] H60 := va_nil
                  have hD : va_D (zA (FM G μ σ) H0) [] := va_nilD
                  have hP : va_P G.1 zCl ([]) H60 := hP
                  have hD : va_D (zA (FM G μ σ) H0) ([]) := hD
                  have hS := hS1
                  have hH9 : HM G s0 μ σ ((2 : Nat) : Int) H60 := HM.thr hE hHb hF hx9
                  exact z_iret hC hrt hlk hQ hS ⟨zle (z := 200) rfl (by omega), zle (z := 2000) rfl (by omega)⟩ ⟨_, rfl, 2, σ, PoM.same hH9, Or.inr ⟨by decide, rfl, by decide, Or.inr ⟨rfl, inE_n (by omega), fun z9 => by obtain ⟨_, v9, e9⟩ := z9; rw [ean, hWn, ← hrn, rnV_none (by rw [hn0]; exact stp_0 (by omega))] at e9; cases e9⟩⟩⟩ dX3_run_131
          · refine lv_aload_n hx hb dX3_run_68 rfl (lv_at hl 5 rfl) ?_
            refine lv_iload hx hb dX3_run_69 (lv_at hl 1 rfl) ?_
            refine z_go (1 + 4 * (10 - f9)) (12 + 60 * (10 - f9)) (z_runV (As := [.int (iI ((w9 % 10 : Nat) : Int))]) (rest := []) hC hml hl.1 (m_X3_isElement hE H9 (hO.ext (zS_F hS) hMo) μ σ 0 (((w9 % 10) : Nat) : Int) hH1 ⟨by omega, by omega⟩) (lw_V q1650 q1652 qs35 q67 q1653) rfl nd_X3_isElement rfl (z_rv hC (ci := 2) rfl hH1.2.2.1.1 rfl) rfl (Nat.le_of_ble_eq_true rfl) ⟨Nat.le_of_ble_eq_true rfl, Nat.le_of_ble_eq_true rfl⟩ ⟨zfit (k := 0) (z := 200) rfl rfl (by omega), zfit (k := 0) (z := 2000) rfl rfl (by omega)⟩ dX3_run_71) ⟨zad (k := 0) rfl (by omega), zad (k := 0) rfl (by omega)⟩ hS (fun _ z => z.elim) (fun r H61 locs hp hF hS1 => ?_)
            obtain ⟨_, rfl, rfl⟩ := hp
            have hP := zpk hP hF
            have hP : va_P G.1 zCl ([(q6, zII G 12 f)]) H61 := hP
            have hD : va_D (zA (FM G μ σ) H0) ([(q6, zII G 12 f)]) := hD
            have hH1 : HM G s0 μ σ 0 H61 := hH1.ext0 hE hF
            have hPm : PLM G σ (St_ea σ a) n f r v H61 := hPm.ext0 hF
            have hS := hS1
            obtain ⟨fl, hfl, hfl2⟩ : ∃ fl : Nat, fl ≤ 1 ∧ (if 0 ≤ ((((w9 % 10) : Nat)) : Int) ∧ ((((w9 % 10) : Nat)) : Int) < ((St_ne σ : Nat) : Int) then (1 : Int) else 0) = fl ∧ (fl = 1 ↔ 0 ≤ ((((w9 % 10) : Nat)) : Int) ∧ ((((w9 % 10) : Nat)) : Int) < ((St_ne σ : Nat) : Int)) := by by_cases h : 0 ≤ ((((w9 % 10) : Nat)) : Int) ∧ ((((w9 % 10) : Nat)) : Int) < ((St_ne σ : Nat) : Int); exact ⟨1, by decide, by rw [if_pos h]; rfl, ⟨fun _ => h, fun _ => rfl⟩⟩; exact ⟨0, by decide, by rw [if_neg h]; rfl, ⟨fun z => absurd z (by decide), fun z => absurd z h⟩⟩
            refine z_top (b := ((fl : Nat) : Int)) (hfl2.1) ?_
            refine z_zeq (tgt := 91) hx hb dX3_run_74 (by decide) (by omega) (fun c62 => ?_) (fun c62 => ?_)
            · have hnel : ¬ (w9 % 10) < St_ne σ := fun z => by have := hfl2.2.mpr ⟨by omega, by omega⟩; omega
              refine lv_iconst (v := iI 0) hx hb dX3_run_91 rfl ?_
              refine lv_istore (lv' := [(8, .int (iI 0)), (6, .int (iI ((w9 / 10 : Nat) : Int))), (7, .int (iI ((w9 % 10 : Nat) : Int))), (5, .int (iI ((n : Nat) : Int))), (4, .ref q6), (3, .ref (μ (6, St_ea σ a, 0))), (0, .ref (μ (0, 0, 0))), (1, .int (iI ((a : Nat) : Int))), (2, .int (iI ((W9 : Nat) : Int)))]) hx hb dX3_run_92 hl (by decide) rfl (fun ls hl => ?_)
              refine lv_iload hx hb dX3_run_94 (lv_at hl 0 rfl) ?_
              refine z_zeq (tgt := 126) hx hb dX3_run_96 (by decide) (by omega) (fun c63 => ?_) (fun c63 => ?_)
              · refine lv_aload_n hx hb dX3_run_126 rfl (lv_at hl 6 rfl) ?_
                refine lv_iconst (v := iI 2) hx hb dX3_run_127 rfl ?_
                have hHb := hH1
                refine z_go (1 + 4 * (10 - f9)) (12 + 60 * (10 - f9)) (z_runV (As := [.int (iI 2)]) (rest := []) hC hml hl.1 (m_X3_no hE H61 (hO.ext (zS_F hS) hMo) μ σ 0 2 hHb) (lw_V q1520 q1522 qs29 q67 q1523) rfl nd_X3_no rfl (z_rv hC (ci := 2) rfl hHb.2.2.1.1 rfl) rfl (Nat.le_of_ble_eq_true rfl) ⟨Nat.le_of_ble_eq_true rfl, Nat.le_of_ble_eq_true rfl⟩ ⟨zfit (k := 0) (z := 200) rfl rfl (by omega), zfit (k := 0) (z := 2000) rfl rfl (by omega)⟩ dX3_run_128) ⟨zad (k := 0) rfl (by omega), zad (k := 0) rfl (by omega)⟩ hS (fun z hz => Or.inl (hz ▸ FM.in hE hh.sep (domM0 0 (by omega)) (by simp [rAm]))) (fun r H64 locs hp hF hS1 => ?_)
                obtain ⟨_, rfl, rfl, hx9⟩ := hp
                have hP : va_P G.1 zCl [] H64 := va_nil
                have hD : va_D (zA (FM G μ σ) H0) [] := va_nilD
                have hP : va_P G.1 zCl ([]) H64 := hP
                have hD : va_D (zA (FM G μ σ) H0) ([]) := hD
                have hS := hS1
                have hH9 : HM G s0 μ σ ((2 : Nat) : Int) H64 := HM.thr hE hHb hF hx9
                exact z_iret hC hrt hlk hQ hS ⟨zle (z := 200) rfl (by omega), zle (z := 2000) rfl (by omega)⟩ ⟨_, rfl, 2, σ, PoM.same hH9, Or.inr ⟨by decide, rfl, by decide, Or.inr ⟨rfl, inE_n (by omega), fun z9 => by obtain ⟨_, v9, e9⟩ := z9; rw [ean, hWn, ← hrn, rnV_none (stp_e0 (by omega) (fun z => hnel z.1))] at e9; cases e9⟩⟩⟩ dX3_run_131
              · omega
            · have hdE : (w9 % 10) < St_ne σ := by have := hfl2.2.mp (by omega); omega
              refine lv_aload_n hx hb dX3_run_77 rfl (lv_at hl 5 rfl) ?_
              refine lv_iload_n hx hb dX3_run_78 rfl (lv_at hl 6 rfl) ?_
              refine lv_iload hx hb dX3_run_79 (lv_at hl 1 rfl) ?_
              refine z_go (1 + 4 * (10 - f9)) (12 + 60 * (10 - f9)) (z_runV (As := [.int (iI ((a : Nat) : Int)), .int (iI ((w9 % 10 : Nat) : Int))]) (rest := []) hC hml hl.1 (m_X3_areOne hE H61 (hO.ext (zS_F hS) hMo) μ σ 0 a (w9 % 10) hH1 ⟨by omega, by omega⟩) (lw_V q1662 q1664 qs37 q67 q1665) rfl nd_X3_areOne rfl (z_rv hC (ci := 2) rfl hH1.2.2.1.1 rfl) rfl (Nat.le_of_ble_eq_true rfl) ⟨Nat.le_of_ble_eq_true rfl, Nat.le_of_ble_eq_true rfl⟩ ⟨zfit (k := 0) (z := 200) rfl rfl (by omega), zfit (k := 0) (z := 2000) rfl rfl (by omega)⟩ dX3_run_81) ⟨zad (k := 0) rfl (by omega), zad (k := 0) rfl (by omega)⟩ hS (fun _ z => z.elim) (fun r H65 locs hp hF hS1 => ?_)
              obtain ⟨_, rfl, rfl⟩ := hp
              have hP := zpk hP hF
              have hP : va_P G.1 zCl ([(q6, zII G 12 f)]) H65 := hP
              have hD : va_D (zA (FM G μ σ) H0) ([(q6, zII G 12 f)]) := hD
              have hH1 : HM G s0 μ σ 0 H65 := hH1.ext0 hE hF
              have hPm : PLM G σ (St_ea σ a) n f r v H65 := hPm.ext0 hF
              have hS := hS1
              obtain ⟨fl, hfl, hfl2⟩ : ∃ fl : Nat, fl ≤ 1 ∧ (if St_ea σ a = St_ea σ (w9 % 10) then (1 : Int) else 0) = fl ∧ (fl = 1 ↔ St_ea σ a = St_ea σ (w9 % 10)) := by by_cases h : St_ea σ a = St_ea σ (w9 % 10); exact ⟨1, by decide, by rw [if_pos h]; rfl, ⟨fun _ => h, fun _ => rfl⟩⟩; exact ⟨0, by decide, by rw [if_neg h]; rfl, ⟨fun z => absurd z (by decide), fun z => absurd z h⟩⟩
              refine z_top (b := ((fl : Nat) : Int)) (hfl2.1) ?_
              refine z_zeq (tgt := 91) hx hb dX3_run_84 (by decide) (by omega) (fun c66 => ?_) (fun c66 => ?_)
              · have hnone : ¬ St_ea σ a = St_ea σ (w9 % 10) := fun z => by have := hfl2.2.mpr z; omega
                refine lv_iconst (v := iI 0) hx hb dX3_run_91 rfl ?_
                refine lv_istore (lv' := [(8, .int (iI 0)), (6, .int (iI ((w9 / 10 : Nat) : Int))), (7, .int (iI ((w9 % 10 : Nat) : Int))), (5, .int (iI ((n : Nat) : Int))), (4, .ref q6), (3, .ref (μ (6, St_ea σ a, 0))), (0, .ref (μ (0, 0, 0))), (1, .int (iI ((a : Nat) : Int))), (2, .int (iI ((W9 : Nat) : Int)))]) hx hb dX3_run_92 hl (by decide) rfl (fun ls hl => ?_)
                refine lv_iload hx hb dX3_run_94 (lv_at hl 0 rfl) ?_
                refine z_zeq (tgt := 126) hx hb dX3_run_96 (by decide) (by omega) (fun c67 => ?_) (fun c67 => ?_)
                · refine lv_aload_n hx hb dX3_run_126 rfl (lv_at hl 6 rfl) ?_
                  refine lv_iconst (v := iI 2) hx hb dX3_run_127 rfl ?_
                  have hHb := hH1
                  refine z_go (1 + 4 * (10 - f9)) (12 + 60 * (10 - f9)) (z_runV (As := [.int (iI 2)]) (rest := []) hC hml hl.1 (m_X3_no hE H65 (hO.ext (zS_F hS) hMo) μ σ 0 2 hHb) (lw_V q1520 q1522 qs29 q67 q1523) rfl nd_X3_no rfl (z_rv hC (ci := 2) rfl hHb.2.2.1.1 rfl) rfl (Nat.le_of_ble_eq_true rfl) ⟨Nat.le_of_ble_eq_true rfl, Nat.le_of_ble_eq_true rfl⟩ ⟨zfit (k := 0) (z := 200) rfl rfl (by omega), zfit (k := 0) (z := 2000) rfl rfl (by omega)⟩ dX3_run_128) ⟨zad (k := 0) rfl (by omega), zad (k := 0) rfl (by omega)⟩ hS (fun z hz => Or.inl (hz ▸ FM.in hE hh.sep (domM0 0 (by omega)) (by simp [rAm]))) (fun r H68 locs hp hF hS1 => ?_)
                  obtain ⟨_, rfl, rfl, hx9⟩ := hp
                  have hP : va_P G.1 zCl [] H68 := va_nil
                  have hD : va_D (zA (FM G μ σ) H0) [] := va_nilD
                  have hP : va_P G.1 zCl ([]) H68 := hP
                  have hD : va_D (zA (FM G μ σ) H0) ([]) := hD
                  have hS := hS1
                  have hH9 : HM G s0 μ σ ((2 : Nat) : Int) H68 := HM.thr hE hHb hF hx9
                  exact z_iret hC hrt hlk hQ hS ⟨zle (z := 200) rfl (by omega), zle (z := 2000) rfl (by omega)⟩ ⟨_, rfl, 2, σ, PoM.same hH9, Or.inr ⟨by decide, rfl, by decide, Or.inr ⟨rfl, inE_n (by omega), fun z9 => by obtain ⟨_, v9, e9⟩ := z9; rw [ean, hWn, ← hrn, rnV_none (stp_e0 (by omega) (fun z => hnone z.2.symm))] at e9; cases e9⟩⟩⟩ dX3_run_131
                · omega
              · have hone : St_ea σ a = St_ea σ (w9 % 10) := hfl2.2.mp (by omega)
                refine lv_iconst (v := iI 1) hx hb dX3_run_87 rfl ?_
                refine lv_goto (tgt := 92) hx hb dX3_run_88 (by decide) ?_
                refine lv_istore (lv' := [(8, .int (iI 1)), (6, .int (iI ((w9 / 10 : Nat) : Int))), (7, .int (iI ((w9 % 10 : Nat) : Int))), (5, .int (iI ((n : Nat) : Int))), (4, .ref q6), (3, .ref (μ (6, St_ea σ a, 0))), (0, .ref (μ (0, 0, 0))), (1, .int (iI ((a : Nat) : Int))), (2, .int (iI ((W9 : Nat) : Int)))]) hx hb dX3_run_92 hl (by decide) rfl (fun ls hl => ?_)
                refine lv_iload hx hb dX3_run_94 (lv_at hl 0 rfl) ?_
                refine z_zeq (tgt := 126) hx hb dX3_run_96 (by decide) (by omega) (fun c69 => ?_) (fun c69 => ?_)
                · omega
                · refine lv_iload hx hb dX3_run_99 (lv_at hl 3 rfl) ?_
                  refine lv_iload hx hb dX3_run_101 (lv_at hl 2 rfl) ?_
                  refine lv_bipush (v := iI 9) hx hb dX3_run_103 (by decide) ?_
                  refine z_cne (tgt := 112) hx hb dX3_run_105 (by decide) (by omega) (fun c70 => ?_) (fun c70 => ?_)
                  · refine lv_iload hx hb dX3_run_112 (lv_at hl 2 rfl) ?_
                    refine lv_iconst (v := iI 5) hx hb dX3_run_114 rfl ?_
                    refine z_cle (tgt := 122) hx hb dX3_run_115 (by decide) (by omega) (fun c71 => ?_) (fun c71 => ?_)
                    · refine lv_iconst (v := iI 0) hx hb dX3_run_122 rfl ?_
                      refine z_cge (tgt := 132) hx hb dX3_run_123 (by decide) (by omega) (fun c72 => ?_) (fun c72 => ?_)
                      · refine lv_iload hx hb dX3_run_132 (lv_at hl 2 rfl) ?_
                        refine lv_bipush (v := iI 6) hx hb dX3_run_134 (by decide) ?_
                        refine z_cge (tgt := 156) hx hb dX3_run_136 (by decide) (by omega) (fun c73 => ?_) (fun c73 => ?_)
                        · omega
                        · refine lv_aload hx hb dX3_run_139 (lv_at hl 4 rfl) ?_
                          refine lv_iload hx hb dX3_run_141 (lv_at hl 3 rfl) ?_
                          refine z_iinc (z := ((n + 1 : Nat) : Int)) (lv' := [(5, .int (iI ((n + 1 : Nat) : Int))), (8, .int (iI 1)), (6, .int (iI ((w9 / 10 : Nat) : Int))), (7, .int (iI ((w9 % 10 : Nat) : Int))), (4, .ref q6), (3, .ref (μ (6, St_ea σ a, 0))), (0, .ref (μ (0, 0, 0))), (1, .int (iI ((a : Nat) : Int))), (2, .int (iI ((W9 : Nat) : Int)))]) hx hb dX3_run_143 hl (k := 3) rfl (by omega) (by decide) rfl (fun ls hl => ?_)
                          refine lv_aload_n hx hb dX3_run_146 rfl (lv_at hl 6 rfl) ?_
                          refine lv_iload hx hb dX3_run_147 (lv_at hl 3 rfl) ?_
                          refine z_go (1 + 4 * (10 - f9)) (12 + 60 * (10 - f9)) (z_runV (As := [.int (iI ((w9 % 10 : Nat) : Int))]) (rest := [.int (iI ((n : Nat) : Int)), .ref q6]) hC hml hl.1 (m_X3_row hE H65 (hO.ext (zS_F hS) hMo) μ σ 0 (w9 % 10) hH1 hdE) (lw_V q1654 q1656 qs36 q67 q1657) rfl nd_X3_row rfl (z_rv hC (ci := 2) rfl hH1.2.2.1.1 rfl) rfl (Nat.le_of_ble_eq_true rfl) ⟨Nat.le_of_ble_eq_true rfl, Nat.le_of_ble_eq_true rfl⟩ ⟨zfit (k := 0) (z := 200) rfl rfl (by omega), zfit (k := 0) (z := 2000) rfl rfl (by omega)⟩ dX3_run_149) ⟨zad (k := 0) rfl (by omega), zad (k := 0) rfl (by omega)⟩ hS (fun _ z => z.elim) (fun r H74 locs hp hF hS1 => ?_)
                          obtain ⟨_, rfl, rfl⟩ := hp
                          have hP := zpk hP hF
                          have hP : va_P G.1 zCl ([(q6, zII G 12 f)]) H74 := hP
                          have hD : va_D (zA (FM G μ σ) H0) ([(q6, zII G 12 f)]) := hD
                          have hH1 : HM G s0 μ σ 0 H74 := hH1.ext0 hE hF
                          have hPm : PLM G σ (St_ea σ a) n f r v H74 := hPm.ext0 hF
                          have hS := hS1
                          have hRw910 := (hH1.el (j := (w9 % 10)) (by omega)).2
                          have hVw910 := hH1.row (j := (w9 % 10)) (by omega)
                          rw [← hone] at hRw910 hVw910
                          have hq9 := hP 0 _ rfl
                          refine z_aastIIO hC hP hD hS 0 (k := n) rfl hRw910 rfl (by omega) (ws' := [(q6, zII G 12 (va_up f n (some (μ (14, (w9 % 10), 0)))))]) rfl dX3_run_152 (fun H75 locs hP hD hS hZ1 hZ2 => ?_)
                          have hPm : PLM G σ (St_ea σ a) (n + 1) (va_up f n (some (μ (14, (w9 % 10), 0)))) (fun i => if i = n then (μ (14, (w9 % 10), 0)) else r i) (va_up v n (St_ev σ (w9 % 10))) H75 := hPm.put (by omega) hnk.1 hq9 hZ1 hZ2 hRw910 hVw910
                          have hH1 : HM G s0 μ σ 0 H75 := hH1.ext hE (zF.one hZ1 hZ2) (fun a9 ha9 _ z => by have := hh.lt hE hO a9 ha9; omega)
                          have hst : stp σ (St_ea σ a) (w9 % 10) n v = some (n + 1, va_up v n (St_ev σ (w9 % 10))) := stp_e (by omega) ⟨by omega, hone.symm⟩
                          refine lv_goto (tgt := 245) hx hb dX3_run_153 (by decide) ?_
                          refine lv_iload hx hb dX3_run_245 (lv_at hl 2 rfl) ?_
                          refine z_zgt (tgt := 48) hx hb dX3_run_247 (by decide) (by omega) (fun c76 => ?_) (fun c76 => ?_)
                          · have hw0 : w9 / 10 ≠ 0 := by omega
                            have hfd := pw10_0 hwf.1 hw0
                            exact W.widen (by omega) (by omega) (ihlp8 ((f9 - 1)) (by omega) (n + 1) (va_up f n (some (μ (14, (w9 % 10), 0)))) (fun i => if i = n then (μ (14, (w9 % 10), 0)) else r i) (va_up v n (St_ev σ (w9 % 10))) (w9 / 10) (f9 - 1) rfl (⟨pw10 hwf.2.1 hwf.1, by omega, by have := stp_le hst; omega⟩) (by rw [← hrn]; exact (rnV_go hwf.2.1 hst hw0).symm) (Nat.le_trans (Nat.div_le_self _ _) hwb) _ _ _ hH1 hPm hP hD hS (lv_sub hl [2, 0, 4, 5, 6, 7, 8] rfl))
                          · have hen := rnV_end hwf.2.1 hst (by omega)
                            rw [hrn] at hen
                            refine lv_iload hx hb dX3_run_250 (lv_at hl 0 rfl) ?_
                            refine lv_iconst (v := iI 1) hx hb dX3_run_252 rfl ?_
                            refine z_ceq (tgt := 262) hx hb dX3_run_253 (by decide) (by omega) (fun c77 => ?_) (fun c77 => ?_)
                            · have hm1 : n + 1 = 1 := by omega
                              have hP0 := hPm 0 (by omega)
                              refine lv_aload_n hx hb dX3_run_262 rfl (lv_at hl 6 rfl) ?_
                              refine lv_iload_n hx hb dX3_run_263 rfl (lv_at hl 7 rfl) ?_
                              refine lv_aload_n hx hb dX3_run_264 rfl (lv_at hl 5 rfl) ?_
                              refine lv_aload hx hb dX3_run_265 (lv_at hl 4 rfl) ?_
                              refine lv_iconst (v := iI 0) hx hb dX3_run_267 rfl ?_
                              refine z_aald hC (hP 0 _ rfl) (k := 0) rfl (by omega) (q := ((fun i => if i = n then (μ (14, (w9 % 10), 0)) else r i) 0)) hP0.1 dX3_run_268 ?_
                              refine lv_iconst (v := iI 1) hx hb dX3_run_269 rfl ?_
                              have hsz9 : H0.size ≤ H75.size := hS.1
                              have hUSt_eaσa := hH1.al (k := St_ea σ a) hea
                              refine z_go ((1 + 4 * (10 - f9)) + 1) ((12 + 60 * (10 - f9)) + 16) (z_runV (As := [.ref ((fun i => if i = n then (μ (14, (w9 % 10), 0)) else r i) 0), .int (iI 1)]) (rest := [.int (iI ((a : Nat) : Int)), .ref (μ (0, 0, 0))]) hC hml hl.1 (m_X6_scaled hE H75 (hO.ext (zS_F hS) hMo) μ σ 0 (St_ea σ a) ((fun i => if i = n then (μ (14, (w9 % 10), 0)) else r i) 0) ((va_up v n (St_ev σ (w9 % 10))) 0) 1 hH1 hea hP0.2.1 hP0.2.2 (by decide)) (lw_V q1694 q1695 q1696 q82 q1697) rfl nd_X6_scaled rfl (z_rv hC (ci := 5) rfl hUSt_eaσa.1 rfl) rfl (Nat.le_of_ble_eq_true rfl) ⟨Nat.le_of_ble_eq_true rfl, Nat.le_of_ble_eq_true rfl⟩ ⟨zfit (k := 1) (z := 200) rfl rfl (by omega), zfit (k := 16) (z := 2000) rfl rfl (by omega)⟩ dX3_run_270) ⟨zad (k := 1) rfl (by omega), zad (k := 16) rfl (by omega)⟩ hS (fun _ z => z.elim) (fun r H79 locs hp hF hS1 => ?_)
                              obtain ⟨qr78, rfl, hN⟩ := hp
                              obtain ⟨hP, hD⟩ := zjn hP hD hS.1 hF hN
                              have hP : va_P G.1 zCl ([(q6, zII G 12 (va_up f n (some (μ (14, (w9 % 10), 0))))), (qr78, zI G (St_n σ (St_ea σ a)) (scV (St_p σ) 1 ((va_up v n (St_ev σ (w9 % 10))) 0)))]) H79 := hP
                              have hD : va_D (zA (FM G μ σ) H0) ([(q6, zII G 12 (va_up f n (some (μ (14, (w9 % 10), 0))))), (qr78, zI G (St_n σ (St_ea σ a)) (scV (St_p σ) 1 ((va_up v n (St_ev σ (w9 % 10))) 0)))]) := hD
                              have hH1 : HM G s0 μ σ 0 H79 := hH1.ext0 hE hF
                              have hS := hS1
                              have hNwqr78 : H0.size ≤ qr78 := Nat.le_trans hsz9 (hN.2.2 0 _ rfl)
                              have hsc9 : ∀ i, i < St_n σ (St_ea σ a) → scV (St_p σ) 1 ((va_up v n (St_ev σ (w9 % 10))) 0) i = ((va_up v n (St_ev σ (w9 % 10))) 0) i := fun i hi => sc1 hp hP0.2.2 i hi
                              have hP : va_P G.1 zCl ([(q6, zII G 12 (va_up f n (some (μ (14, (w9 % 10), 0))))), (qr78, zI G (St_n σ (St_ea σ a)) ((va_up v n (St_ev σ (w9 % 10))) 0))]) H79 := zcI hP 1 rfl (hsc9)
                              have hD : va_D (zA (FM G μ σ) H0) ([(q6, zII G 12 (va_up f n (some (μ (14, (w9 % 10), 0))))), (qr78, zI G (St_n σ (St_ea σ a)) ((va_up v n (St_ev σ (w9 % 10))) 0))]) := hD.set (p := 1) rfl
                              have hHb := hH1
                              have hRb := hP 1 _ rfl
                              refine z_go ((1 + 4 * (10 - f9)) + 1) ((12 + 60 * (10 - f9)) + 16) (z_runV (As := [.int (iI ((a : Nat) : Int)), .ref qr78]) (rest := []) hC hml hl.1 (m_X3_put hE H79 (hO.ext (zS_F hS) hMo) μ σ 0 a qr78 ((va_up v n (St_ev σ (w9 % 10))) 0) hHb (by omega) hRb hP0.2.2) (lw_V q1671 q1673 qs39 q67 q1674) rfl nd_X3_put rfl (z_rv hC (ci := 2) rfl hHb.2.2.1.1 rfl) rfl (Nat.le_of_ble_eq_true rfl) ⟨Nat.le_of_ble_eq_true rfl, Nat.le_of_ble_eq_true rfl⟩ ⟨zfit (k := 0) (z := 200) rfl rfl (by omega), zfit (k := 0) (z := 2000) rfl rfl (by omega)⟩ dX3_run_273) ⟨zad (k := 0) rfl (by omega), zad (k := 0) rfl (by omega)⟩ hS (fun z hz => Or.inl (hz ▸ FM.in hE hh.sep (domME 13 a (Or.inl rfl) (by omega)) (by simp [rAm]))) (fun r H80 locs hp hF hS1 => ?_)
                              obtain ⟨_, rfl, rfl, hm9⟩ := hp
                              have hP : va_P G.1 zCl [] H80 := va_nil
                              have hD : va_D (zA (FM G μ σ) H0) [] := va_nilD
                              have hP : va_P G.1 zCl ([]) H80 := hP
                              have hD : va_D (zA (FM G μ σ) H0) ([]) := hD
                              have hS := hS1
                              have hPo : PoM G s0 H0 μ σ (stEl σ a ((va_up v n (St_ev σ (w9 % 10))) 0)) 0 H80 := HM.put hE hO hh hHb (by omega) hF hm9 (zAt.ext hRb hF (Ne.symm (z_noArr hE (ci := 7) (t := 0) rfl (hHb.el (j := a) (by omega)).1 rfl hRb))) hNwqr78 hP0.2.2
                              exact z_iret hC hrt hlk hQ hS ⟨zle (z := 200) rfl (by omega), zle (z := 2000) rfl (by omega)⟩ ⟨_, rfl, 0, stEl σ a ((va_up v n (St_ev σ (w9 % 10))) 0), hPo, Or.inl ⟨rfl, ⟨a, va_up v n (St_ev σ (w9 % 10)), ⟨by omega, by omega⟩, by omega, by rw [hWn, hen, hm1], rfl, rfl⟩⟩⟩ dX3_run_276
                            · refine lv_aload_n hx hb dX3_run_256 rfl (lv_at hl 6 rfl) ?_
                              refine lv_iconst (v := iI 2) hx hb dX3_run_257 rfl ?_
                              have hHb := hH1
                              refine z_go (1 + 4 * (10 - f9)) (12 + 60 * (10 - f9)) (z_runV (As := [.int (iI 2)]) (rest := []) hC hml hl.1 (m_X3_no hE H75 (hO.ext (zS_F hS) hMo) μ σ 0 2 hHb) (lw_V q1520 q1522 qs29 q67 q1523) rfl nd_X3_no rfl (z_rv hC (ci := 2) rfl hHb.2.2.1.1 rfl) rfl (Nat.le_of_ble_eq_true rfl) ⟨Nat.le_of_ble_eq_true rfl, Nat.le_of_ble_eq_true rfl⟩ ⟨zfit (k := 0) (z := 200) rfl rfl (by omega), zfit (k := 0) (z := 2000) rfl rfl (by omega)⟩ dX3_run_258) ⟨zad (k := 0) rfl (by omega), zad (k := 0) rfl (by omega)⟩ hS (fun z hz => Or.inl (hz ▸ FM.in hE hh.sep (domM0 0 (by omega)) (by simp [rAm]))) (fun r H81 locs hp hF hS1 => ?_)
                              obtain ⟨_, rfl, rfl, hx9⟩ := hp
                              have hP : va_P G.1 zCl [] H81 := va_nil
                              have hD : va_D (zA (FM G μ σ) H0) [] := va_nilD
                              have hP : va_P G.1 zCl ([]) H81 := hP
                              have hD : va_D (zA (FM G μ σ) H0) ([]) := hD
                              have hS := hS1
                              have hH9 : HM G s0 μ σ ((2 : Nat) : Int) H81 := HM.thr hE hHb hF hx9
                              exact z_iret hC hrt hlk hQ hS ⟨zle (z := 200) rfl (by omega), zle (z := 2000) rfl (by omega)⟩ ⟨_, rfl, 2, σ, PoM.same hH9, Or.inr ⟨by decide, rfl, by decide, Or.inr ⟨rfl, inE_n (by omega), fun z9 => by obtain ⟨_, v9, e9⟩ := z9; rw [ean, hWn, hen] at e9; injection e9 with e9; injection e9 with e9 _; omega⟩⟩⟩ dX3_run_261
                      · omega
                    · omega
                  · refine lv_iconst (v := iI 1) hx hb dX3_run_108 rfl ?_
                    refine lv_goto (tgt := 123) hx hb dX3_run_109 (by decide) ?_
                    omega
      exact W.widen (by omega) (by omega) (lp8 _ 0 (fun _ => none) (fun _ => 0) (fun _ _ => 0) W9 10 rfl (⟨by omega, by omega, by omega⟩) rfl (Nat.le_refl _) _ _ _ hH1 hPm hP hD hS hl)
    · refine lv_aload_n hx hb dX3_run_23 rfl (lv_at hl 0 rfl) ?_
      refine lv_iconst (v := iI 2) hx hb dX3_run_24 rfl ?_
      have hHb := hH1
      refine z_go 0 0 (z_runV (As := [.int (iI 2)]) (rest := []) hC hml hl.1 (m_X3_no hE H2 (hO.ext (zS_F hS) hMo) μ σ 0 2 hHb) (lw_V q1520 q1522 qs29 q67 q1523) rfl nd_X3_no rfl (z_rv hC (ci := 2) rfl hHb.2.2.1.1 rfl) rfl (Nat.le_of_ble_eq_true rfl) ⟨Nat.le_of_ble_eq_true rfl, Nat.le_of_ble_eq_true rfl⟩ ⟨zfit (k := 0) (z := 200) rfl rfl (by omega), zfit (k := 0) (z := 2000) rfl rfl (by omega)⟩ dX3_run_25) ⟨zad (k := 0) rfl (by omega), zad (k := 0) rfl (by omega)⟩ hS (fun z hz => Or.inl (hz ▸ FM.in hE hh.sep (domM0 0 (by omega)) (by simp [rAm]))) (fun r H82 locs hp hF hS1 => ?_)
      obtain ⟨_, rfl, rfl, hx9⟩ := hp
      have hP : va_P G.1 zCl [] H82 := va_nil
      have hD : va_D (zA (FM G μ σ) H0) [] := va_nilD
      have hP : va_P G.1 zCl ([]) H82 := hP
      have hD : va_D (zA (FM G μ σ) H0) ([]) := hD
      have hS := hS1
      have hH9 : HM G s0 μ σ ((2 : Nat) : Int) H82 := HM.thr hE hHb hF hx9
      exact z_iret hC hrt hlk hQ hS ⟨zle (z := 200) rfl (by omega), zle (z := 2000) rfl (by omega)⟩ ⟨_, rfl, 2, σ, PoM.same hH9, Or.inr ⟨by decide, rfl, by decide, Or.inr ⟨rfl, inE_n (by omega), fun z9 => by have := z9.1; omega⟩⟩⟩ dX3_run_28
  · refine lv_aload_n hx hb dX3_run_13 rfl (lv_at hl 0 rfl) ?_
    refine lv_iconst (v := iI 1) hx hb dX3_run_14 rfl ?_
    have hHb := hH1
    refine z_go 0 0 (z_runV (As := [.int (iI 1)]) (rest := []) hC hml hl.1 (m_X3_no hE H2 (hO.ext (zS_F hS) hMo) μ σ 0 1 hHb) (lw_V q1520 q1522 qs29 q67 q1523) rfl nd_X3_no rfl (z_rv hC (ci := 2) rfl hHb.2.2.1.1 rfl) rfl (Nat.le_of_ble_eq_true rfl) ⟨Nat.le_of_ble_eq_true rfl, Nat.le_of_ble_eq_true rfl⟩ ⟨zfit (k := 0) (z := 200) rfl rfl (by omega), zfit (k := 0) (z := 2000) rfl rfl (by omega)⟩ dX3_run_15) ⟨zad (k := 0) rfl (by omega), zad (k := 0) rfl (by omega)⟩ hS (fun z hz => Or.inl (hz ▸ FM.in hE hh.sep (domM0 0 (by omega)) (by simp [rAm]))) (fun r H83 locs hp hF hS1 => ?_)
    obtain ⟨_, rfl, rfl, hx9⟩ := hp
    have hP : va_P G.1 zCl [] H83 := va_nil
    have hD : va_D (zA (FM G μ σ) H0) [] := va_nilD
    have hP : va_P G.1 zCl ([]) H83 := hP
    have hD : va_D (zA (FM G μ σ) H0) ([]) := hD
    have hS := hS1
    have hH9 : HM G s0 μ σ ((1 : Nat) : Int) H83 := HM.thr hE hHb hF hx9
    exact z_iret hC hrt hlk hQ hS ⟨zle (z := 200) rfl (by omega), zle (z := 2000) rfl (by omega)⟩ ⟨_, rfl, 1, σ, PoM.same hH9, Or.inr ⟨by decide, rfl, by decide, Or.inl ⟨rfl, fun z9 => by have h9 := hfl2.2.mpr z9; omega⟩⟩⟩ dX3_run_18

