/-! THE CLASS: ranks; what kills -/
set_option maxRecDepth 100000
theorem slInv_congr {p : Int} {n : Nat} {M M' F : Nat → Nat → Int} {ld : Nat → Int} {nx col : Nat} (h : slInv p n M F ld nx col) (e : ∀ i k, i < n → k < n → M i k = M' i k) : slInv p n M' F ld nx col := by
  obtain ⟨h1, h2, h3⟩ := h
  refine ⟨h1, fun w => ?_, h3⟩
  rw [← h2 w]
  refine forall_congr' (fun i => forall_congr' (fun hi => ?_))
  rw [show dt n (M' i) w = dt n (M i) w from sm_congr (fun k hk => by rw [e i k hi hk])]
theorem kv_step {n fr k : Nat} {f : Nat → Int} {S : Nat → Int} {x : Int} (h : ∀ j, j < n → f j = if j = fr then 1 else if j < k then S j else 0) (hk : k < fr) (hx : x = S k) : ∀ j, j < n → va_up f k x j = if j = fr then 1 else if j < k + 1 then S j else 0 := by
  intro j hj
  by_cases e : j = k
  · subst e; rw [va_up_self, if_neg (by omega), if_pos (by omega), hx]
  · rw [va_up_ne _ _ e, h j hj]
    by_cases e2 : j = fr
    · rw [if_pos e2, if_pos e2]
    · rw [if_neg e2, if_neg e2]
      congr 1
      exact propext ⟨fun z => by omega, fun z => by omega⟩
def KIL (p : Int) (n : Nat) (M : Nat → Nat → Int) (c : Nat) (w : Nat → Int) : Prop := c < n ∧ (∀ k, k < c → ¬ freeCol p n M k) ∧ kerV p n M c w
abbrev rm_m_X7_rank : Room := { frames := 4, cells := 18, slots := 288, locals := 96 }
set_option maxHeartbeats 4000000 in
theorem m_X7_rank {l : Launch} {s0 : State} {G : zG} (hE : zE l s0 G) (H0 : Heap) (hO : zO s0 H0) (x g : Nat) (p : Int) (d n kd : Nat) (dv : Nat → Int) (sg : Nat → Nat → Int) (a r : Nat) (v : Nat → Int) (b : Nat) (hA : zAg G x g p d n kd dv sg H0) (h : zEl G x g a r n v H0) (hv : rw_ok p n v) (hb1 : b ≤ 1) : zM l s0 yX7_rank cX7_rank 7 (some FieldType.int) rm_m_X7_rank [.ref a, .int (iI ((b : Nat) : Int))] H0 M0 (ri (fun y _ => y = (rkM p n (mxV p v sg b) : Nat))) := by
  refine z_met hE (by decide +kernel) (Nat.le_of_ble_eq_true rfl) ?_
  intro pp ee ss mm args below meth cd Q ls hC hml hrt hlk hnm hH hQ hS hl
  have hx := hC.x
  have hb := hC.b
  have hl : lv_has ls 7 [(0, .ref a), (1, .int (iI ((b : Nat) : Int)))] := hl
  have hP : va_P G.1 zCl [] H0 := va_nil
  have hD : va_D (zA M0 H0) [] := va_nilD
  obtain ⟨la, le, dr, kn, sm, dl, da, ml, so, dm, ro, hx0, hg0, hL0, hso, hro, hfa⟩ := id hA
  obtain ⟨hp, hd4, hn2, hkd, hdv, hsg⟩ := hfa
  obtain ⟨hn16, hp7⟩ := hA.n
  refine lv_iconst (v := iI 0) hx hb dX7_rank_0 rfl ?_
  refine lv_istore_n (lv' := [(2, .int (iI 0)), (0, .ref a), (1, .int (iI ((b : Nat) : Int)))]) hx hb dX7_rank_1 rfl hl (by decide) rfl (fun ls hl => ?_)
  refine lv_aload_n hx hb dX7_rank_2 rfl (lv_at hl 1 rfl) ?_
  refine lv_aload_n hx hb dX7_rank_3 rfl (lv_at hl 1 rfl) ?_
  refine lv_iload_n hx hb dX7_rank_4 rfl (lv_at hl 2 rfl) ?_
  refine z_go 17 272 (z_runV (As := [.int (iI ((b : Nat) : Int))]) (rest := [.ref a]) hC hml hl.1 (m_X7_matrix hE H0 (hO.ext0 (zS_F hS)) x g p d n kd dv sg a r (v) b (hA.ext0 (zS_F hS)) (h.ext0 (zS_F hS)) hv hb1) (lw_V q531 q533 qs16 q92 q534) rfl nd_X7_matrix rfl (z_rv hC (ci := 6) rfl (zo hS h.1 id) rfl) rfl (Nat.le_of_ble_eq_true rfl) ⟨Nat.le_of_ble_eq_true rfl, Nat.le_of_ble_eq_true rfl⟩ ⟨zfit (k := 17) (z := 18) rfl rfl (by omega), zfit (k := 272) (z := 288) rfl rfl (by omega)⟩ dX7_rank_5) ⟨zad (k := 17) rfl (by omega), zad (k := 272) rfl (by omega)⟩ hS (fun _ z => z.elim) (fun r H3 locs hp hF hS1 => ?_)
  obtain ⟨qm1, rfl, Fm2, hFm2, hN⟩ := hp
  have hD : va_D (zA M0 H0) ([(qm1, zII G n (fun i => some (qm1 + 1 + i)))] ++ (zRows G n n (fun i => qm1 + 1 + i) Fm2 ++ [])) := va_D.weaken hN.2 (fun _ _ _ z => Or.inr (Nat.le_trans hS.1 z))
  have hP := hN.1
  have hP : va_P G.1 zCl ([(qm1, zII G n (fun i => some (qm1 + 1 + i)))] ++ (zRows G n n (fun i => qm1 + 1 + i) Fm2 ++ [])) H3 := hP
  have hD : va_D (zA M0 H0) ([(qm1, zII G n (fun i => some (qm1 + 1 + i)))] ++ (zRows G n n (fun i => qm1 + 1 + i) Fm2 ++ [])) := hD
  have hS := hS1
  refine z_go 18 288 (z_runV (As := [.ref qm1]) (rest := []) hC hml hl.1 (m_X7_solve hE H3 (hO.ext0 (zS_F hS)) x la le dr p kn sm a g r n qm1 _ Fm2 hp (zo hS hx0 id) (zo hS h.1 id) hn16 (fun i k hi hk => by rw [hFm2 i k hi hk]; exact mxV_in hp _ _ _ _ _) hP (va_D.weaken hD (fun _ _ _ z => z.elim False.elim (fun h => Nat.le_trans hO.1 h)))) (lw_V q537 q539 qs17 q92 q540) rfl nd_X7_solve rfl (z_rv hC (ci := 6) rfl (zo hS h.1 id) rfl) rfl (Nat.le_of_ble_eq_true rfl) ⟨Nat.le_of_ble_eq_true rfl, Nat.le_of_ble_eq_true rfl⟩ ⟨zfit (k := 1) (z := 18) rfl rfl (by omega), zfit (k := 16) (z := 288) rfl rfl (by omega)⟩ dX7_rank_8) ⟨zad (k := 1) rfl (by omega), zad (k := 16) rfl (by omega)⟩ hS (fun z hz => by obtain ⟨e, hz⟩ := hz; obtain ⟨j, hj⟩ := List.mem_iff_getElem?.mp hz; exact hD.2 j _ hj) (fun r H5 locs hp hF hS1 => ?_)
  obtain ⟨ql4, rfl, ro1, F1, ld, nx, hinv, hP9, hD9⟩ := hp
  have hinv := slInv_congr hinv hFm2
  have hD : va_D (zA M0 H0) _ := va_D.weaken hD9 (fun _ _ _ z => z.elim (fun w9 => by obtain ⟨e, hz⟩ := w9; obtain ⟨j, hj⟩ := List.mem_iff_getElem?.mp hz; have h9 := hD.2 j _ hj; exact h9) (fun h => Or.inr (Nat.le_trans hS.1 h)))
  have hP := hP9
  have hP : va_P G.1 zCl ([(qm1, zII G n (fun i => some (ro1 i))), (ql4, zI G n ld)] ++ (zRows G n n ro1 F1 ++ [])) H5 := hP
  have hD : va_D (zA M0 H0) ([(qm1, zII G n (fun i => some (ro1 i))), (ql4, zI G n ld)] ++ (zRows G n n ro1 F1 ++ [])) := hD
  have hS := hS1
  refine lv_astore_n (lv' := [(3, .ref ql4), (2, .int (iI 0)), (0, .ref a), (1, .int (iI ((b : Nat) : Int)))]) hx hb dX7_rank_11 rfl hl (by decide) rfl (fun ls hl => ?_)
  refine lv_aload_n hx hb dX7_rank_12 rfl (lv_at hl 0 rfl) ?_
  refine z_alen hC 0 (hP 1 _ rfl) rfl (y := ((n : Nat) : Int)) rfl dX7_rank_13 ?_
  refine lv_istore (lv' := [(4, .int (iI ((n : Nat) : Int))), (3, .ref ql4), (2, .int (iI 0)), (0, .ref a), (1, .int (iI ((b : Nat) : Int)))]) hx hb dX7_rank_14 hl (by decide) rfl (fun ls hl => ?_)
  refine lv_iconst (v := iI 0) hx hb dX7_rank_16 rfl ?_
  refine lv_istore (lv' := [(5, .int (iI 0)), (4, .int (iI ((n : Nat) : Int))), (3, .ref ql4), (2, .int (iI 0)), (0, .ref a), (1, .int (iI ((b : Nat) : Int)))]) hx hb dX7_rank_17 hl (by decide) rfl (fun ls hl => ?_)
  have hrk := rkM_eq (fun c hc => hinv.free_iff hp hc)
  have lp6 : ∀ (dlp6 : Nat) (k : Nat) (c : Nat), n - k = dlp6 → (k ≤ n) → (c = cnt ld k) → ∀ (H7 : Heap) (locs : List Loc) (ls : Array Slot), va_P G.1 zCl ([(qm1, zII G n (fun i => some (ro1 i))), (ql4, zI G n ld)] ++ (zRows G n n ro1 F1 ++ [])) H7 → va_D (zA M0 H0) ([(qm1, zII G n (fun i => some (ro1 i))), (ql4, zI G n ld)] ++ (zRows G n n ro1 F1 ++ [])) → va_S (zA M0 H0) H0 H7 locs → lv_has ls 7 [(5, .int (iI ((k : Nat) : Int))), (2, .int (iI ((c : Nat) : Int))), (4, .int (iI ((n : Nat) : Int))), (3, .ref ql4), (0, .ref a), (1, .int (iI ((b : Nat) : Int)))] → W pp l ee rm_m_X7_rank ss mm args below meth cd H7 locs 18 288 Q (F0 mm 19 ls []) := by
    intro dlp6
    induction dlp6 using Nat.strongRecOn with
    | ind dlp6 ihlp6 =>
      intro k c hdlp6 hk hc H7 locs ls  hP hD hS hl
      refine lv_iload hx hb dX7_rank_19 (lv_at hl 0 rfl) ?_
      refine lv_iload hx hb dX7_rank_21 (lv_at hl 2 rfl) ?_
      refine z_cge (tgt := 52) hx hb dX7_rank_23 (by decide) (by omega) (fun c8 => ?_) (fun c8 => ?_)
      · have ek : k = n := by omega
        refine lv_iload_n hx hb dX7_rank_52 rfl (lv_at hl 1 rfl) ?_
        exact z_iret hC hrt hlk hQ hS ⟨zle (z := 18) rfl (by omega), zle (z := 288) rfl (by omega)⟩ ⟨_, rfl, by rw [← hrk, hc, ek]⟩ dX7_rank_53
      · have hcl := cnt_le ld k
        have hl4 := hinv.2.2.2.1 k (by omega)
        refine lv_aload_n hx hb dX7_rank_26 rfl (lv_at hl 3 rfl) ?_
        refine lv_iload hx hb dX7_rank_27 (lv_at hl 0 rfl) ?_
        refine z_iald hC (hP 1 _ rfl) (k := k) rfl (by omega) (y := ld k) rfl dX7_rank_29 ?_
        refine lv_istore (lv' := [(6, .int (iI (ld k))), (5, .int (iI ((k : Nat) : Int))), (2, .int (iI ((c : Nat) : Int))), (4, .int (iI ((n : Nat) : Int))), (3, .ref ql4), (0, .ref a), (1, .int (iI ((b : Nat) : Int)))]) hx hb dX7_rank_30 hl (by decide) rfl (fun ls hl => ?_)
        refine lv_iload_n hx hb dX7_rank_32 rfl (lv_at hl 2 rfl) ?_
        refine lv_iload hx hb dX7_rank_33 (lv_at hl 0 rfl) ?_
        refine lv_iconst (v := iI (-1)) hx hb dX7_rank_35 rfl ?_
        refine z_cne (tgt := 43) hx hb dX7_rank_36 (by decide) (by omega) (fun c9 => ?_) (fun c9 => ?_)
        · refine lv_iconst (v := iI 1) hx hb dX7_rank_43 rfl ?_
          refine z_add hx hb (z := ((c : Nat) : Int) + 1) dX7_rank_44 rfl ?_
          refine z_top (b := ((c + 1 : Nat) : Int)) (by omega) ?_
          refine lv_istore_n (lv' := [(2, .int (iI ((c + 1 : Nat) : Int))), (6, .int (iI (ld k))), (5, .int (iI ((k : Nat) : Int))), (4, .int (iI ((n : Nat) : Int))), (3, .ref ql4), (0, .ref a), (1, .int (iI ((b : Nat) : Int)))]) hx hb dX7_rank_45 rfl hl (by decide) rfl (fun ls hl => ?_)
          refine z_iinc (z := ((k + 1 : Nat) : Int)) (lv' := [(5, .int (iI ((k + 1 : Nat) : Int))), (2, .int (iI ((c + 1 : Nat) : Int))), (6, .int (iI (ld k))), (4, .int (iI ((n : Nat) : Int))), (3, .ref ql4), (0, .ref a), (1, .int (iI ((b : Nat) : Int)))]) hx hb dX7_rank_46 hl (k := 2) rfl (by omega) (by decide) rfl (fun ls hl => ?_)
          refine lv_goto (tgt := 19) hx hb dX7_rank_49 (by decide) ?_
          exact W.widen (by omega) (by omega) (ihlp6 (n - (k + 1)) (by omega) (k + 1) (c + 1) rfl (by omega) (by simp only [cnt]; rw [if_neg (by assumption)]; omega) _ _ _  hP hD hS (lv_sub hl [0, 1, 3, 4, 5, 6] rfl))
        · refine lv_iconst (v := iI 0) hx hb dX7_rank_39 rfl ?_
          refine lv_goto (tgt := 44) hx hb dX7_rank_40 (by decide) ?_
          refine z_add hx hb (z := ((c : Nat) : Int) + 0) dX7_rank_44 rfl ?_
          refine z_top (b := ((c + 0 : Nat) : Int)) (by omega) ?_
          refine lv_istore_n (lv' := [(2, .int (iI ((c + 0 : Nat) : Int))), (6, .int (iI (ld k))), (5, .int (iI ((k : Nat) : Int))), (4, .int (iI ((n : Nat) : Int))), (3, .ref ql4), (0, .ref a), (1, .int (iI ((b : Nat) : Int)))]) hx hb dX7_rank_45 rfl hl (by decide) rfl (fun ls hl => ?_)
          refine z_iinc (z := ((k + 1 : Nat) : Int)) (lv' := [(5, .int (iI ((k + 1 : Nat) : Int))), (2, .int (iI ((c + 0 : Nat) : Int))), (6, .int (iI (ld k))), (4, .int (iI ((n : Nat) : Int))), (3, .ref ql4), (0, .ref a), (1, .int (iI ((b : Nat) : Int)))]) hx hb dX7_rank_46 hl (k := 2) rfl (by omega) (by decide) rfl (fun ls hl => ?_)
          refine lv_goto (tgt := 19) hx hb dX7_rank_49 (by decide) ?_
          exact W.widen (by omega) (by omega) (ihlp6 (n - (k + 1)) (by omega) (k + 1) (c + 0) rfl (by omega) (by simp only [cnt]; rw [if_pos (by assumption)]; omega) _ _ _  hP hD hS (lv_sub hl [0, 1, 3, 4, 5, 6] rfl))
  exact W.widen (by omega) (by omega) (lp6 _ 0 0 rfl (Nat.zero_le _) rfl _ _ _  hP hD hS (lv_sub hl [0, 3, 1, 2, 4, 5] rfl))

abbrev rm_m_X7_killer : Room := { frames := 4, cells := 21, slots := 308, locals := 96 }
set_option maxHeartbeats 4000000 in
theorem m_X7_killer {l : Launch} {s0 : State} {G : zG} (hE : zE l s0 G) (H0 : Heap) (hO : zO s0 H0) (x g : Nat) (p : Int) (d n kd : Nat) (dv : Nat → Int) (sg : Nat → Nat → Int) (a r : Nat) (v : Nat → Int) (hA : zAg G x g p d n kd dv sg H0) (h : zEl G x g a r n v H0) (hv : rw_ok p n v) : zM l s0 yX7_killer cX7_killer 6 (some (FieldType.object "java/util/Optional")) rm_m_X7_killer [.ref a] H0 M0 (rr (fun q h1 => (∃ (c : Nat) (w : Nat → Int), KIL p n (mxV p v sg 1) c w ∧ ∃ a1 r1 : Nat, NW G H0 h1 [(q, zOb 10 [.ref a1]), (a1, zOb 6 [.ref g, .ref r1, .ref x]), (r1, zI G n w)]) ∨ ((∀ c, c < n → ¬ freeCol p n (mxV p v sg 1) c) ∧ q = G.2 13))) := by
  refine z_met hE (by decide +kernel) (Nat.le_of_ble_eq_true rfl) ?_
  intro pp ee ss mm args below meth cd Q ls hC hml hrt hlk hnm hH hQ hS hl
  have hx := hC.x
  have hb := hC.b
  have hl : lv_has ls 6 [(0, .ref a)] := hl
  have hP : va_P G.1 zCl [] H0 := va_nil
  have hD : va_D (zA M0 H0) [] := va_nilD
  obtain ⟨la, le, dr, kn, sm, dl, da, ml, so, dm, ro, hx0, hg0, hL0, hso, hro, hfa⟩ := id hA
  obtain ⟨hp, hd4, hn2, hkd, hdv, hsg⟩ := hfa
  obtain ⟨hn16, hp7⟩ := hA.n
  refine lv_aload_n hx hb dX7_killer_0 rfl (lv_at hl 0 rfl) ?_
  refine lv_iconst (v := iI 1) hx hb dX7_killer_1 rfl ?_
  refine z_go 17 272 (z_runV (As := [.int (iI 1)]) (rest := []) hC hml hl.1 (m_X7_matrix hE H0 (hO.ext0 (zS_F hS)) x g p d n kd dv sg a r (v) 1 (hA.ext0 (zS_F hS)) (h.ext0 (zS_F hS)) hv (by decide)) (lw_V q531 q533 qs16 q92 q534) rfl nd_X7_matrix rfl (z_rv hC (ci := 6) rfl (zo hS h.1 id) rfl) rfl (Nat.le_of_ble_eq_true rfl) ⟨Nat.le_of_ble_eq_true rfl, Nat.le_of_ble_eq_true rfl⟩ ⟨zfit (k := 17) (z := 21) rfl rfl (by omega), zfit (k := 272) (z := 308) rfl rfl (by omega)⟩ dX7_killer_2) ⟨zad (k := 17) rfl (by omega), zad (k := 272) rfl (by omega)⟩ hS (fun _ z => z.elim) (fun r H3 locs hp hF hS1 => ?_)
  obtain ⟨qm1, rfl, Fm2, hFm2, hN⟩ := hp
  have hD : va_D (zA M0 H0) ([(qm1, zII G n (fun i => some (qm1 + 1 + i)))] ++ (zRows G n n (fun i => qm1 + 1 + i) Fm2 ++ [])) := va_D.weaken hN.2 (fun _ _ _ z => Or.inr (Nat.le_trans hS.1 z))
  have hP := hN.1
  have hP : va_P G.1 zCl ([(qm1, zII G n (fun i => some (qm1 + 1 + i)))] ++ (zRows G n n (fun i => qm1 + 1 + i) Fm2 ++ [])) H3 := hP
  have hD : va_D (zA M0 H0) ([(qm1, zII G n (fun i => some (qm1 + 1 + i)))] ++ (zRows G n n (fun i => qm1 + 1 + i) Fm2 ++ [])) := hD
  have hS := hS1
  refine lv_astore_n (lv' := [(1, .ref qm1), (0, .ref a)]) hx hb dX7_killer_5 rfl hl (by decide) rfl (fun ls hl => ?_)
  refine lv_aload_n hx hb dX7_killer_6 rfl (lv_at hl 1 rfl) ?_
  refine lv_aload_n hx hb dX7_killer_7 rfl (lv_at hl 0 rfl) ?_
  refine z_go 18 288 (z_runV (As := [.ref qm1]) (rest := []) hC hml hl.1 (m_X7_solve hE H3 (hO.ext0 (zS_F hS)) x la le dr p kn sm a g r n qm1 _ Fm2 hp (zo hS hx0 id) (zo hS h.1 id) hn16 (fun i k hi hk => by rw [hFm2 i k hi hk]; exact mxV_in hp _ _ _ _ _) hP (va_D.weaken hD (fun _ _ _ z => z.elim False.elim (fun h => Nat.le_trans hO.1 h)))) (lw_V q537 q539 qs17 q92 q540) rfl nd_X7_solve rfl (z_rv hC (ci := 6) rfl (zo hS h.1 id) rfl) rfl (Nat.le_of_ble_eq_true rfl) ⟨Nat.le_of_ble_eq_true rfl, Nat.le_of_ble_eq_true rfl⟩ ⟨zfit (k := 1) (z := 21) rfl rfl (by omega), zfit (k := 16) (z := 308) rfl rfl (by omega)⟩ dX7_killer_8) ⟨zad (k := 1) rfl (by omega), zad (k := 16) rfl (by omega)⟩ hS (fun z hz => by obtain ⟨e, hz⟩ := hz; obtain ⟨j, hj⟩ := List.mem_iff_getElem?.mp hz; exact hD.2 j _ hj) (fun r H5 locs hp hF hS1 => ?_)
  obtain ⟨ql4, rfl, ro1, F1, ld, nx, hinv, hP9, hD9⟩ := hp
  have hinv := slInv_congr hinv hFm2
  have hD : va_D (zA M0 H0) _ := va_D.weaken hD9 (fun _ _ _ z => z.elim (fun w9 => by obtain ⟨e, hz⟩ := w9; obtain ⟨j, hj⟩ := List.mem_iff_getElem?.mp hz; have h9 := hD.2 j _ hj; exact h9) (fun h => Or.inr (Nat.le_trans hS.1 h)))
  have hP := hP9
  have hP : va_P G.1 zCl ([(qm1, zII G n (fun i => some (ro1 i))), (ql4, zI G n ld)] ++ (zRows G n n ro1 F1 ++ [])) H5 := hP
  have hD : va_D (zA M0 H0) ([(qm1, zII G n (fun i => some (ro1 i))), (ql4, zI G n ld)] ++ (zRows G n n ro1 F1 ++ [])) := hD
  have hS := hS1
  refine lv_astore_n (lv' := [(2, .ref ql4), (1, .ref qm1), (0, .ref a)]) hx hb dX7_killer_11 rfl hl (by decide) rfl (fun ls hl => ?_)
  refine lv_iconst (v := iI 0) hx hb dX7_killer_12 rfl ?_
  refine lv_istore_n (lv' := [(3, .int (iI 0)), (2, .ref ql4), (1, .ref qm1), (0, .ref a)]) hx hb dX7_killer_13 rfl hl (by decide) rfl (fun ls hl => ?_)
  have lp6 : ∀ (dlp6 : Nat) (fr : Nat), n - fr = dlp6 → (fr ≤ n) → (∀ k, k < fr → ld k ≠ -1) → ∀ (H7 : Heap) (locs : List Loc) (ls : Array Slot), va_P G.1 zCl ([(qm1, zII G n (fun i => some (ro1 i))), (ql4, zI G n ld)] ++ (zRows G n n ro1 F1 ++ [])) H7 → va_D (zA M0 H0) ([(qm1, zII G n (fun i => some (ro1 i))), (ql4, zI G n ld)] ++ (zRows G n n ro1 F1 ++ [])) → va_S (zA M0 H0) H0 H7 locs → lv_has ls 6 [(3, .int (iI ((fr : Nat) : Int))), (2, .ref ql4), (1, .ref qm1), (0, .ref a)] → W pp l ee rm_m_X7_killer ss mm args below meth cd H7 locs 18 288 Q (F0 mm 14 ls []) := by
    intro dlp6
    induction dlp6 using Nat.strongRecOn with
    | ind dlp6 ihlp6 =>
      intro fr hdlp6 hfr hle H7 locs ls  hP hD hS hl
      refine lv_iload_n hx hb dX7_killer_14 rfl (lv_at hl 0 rfl) ?_
      refine lv_aload_n hx hb dX7_killer_15 rfl (lv_at hl 1 rfl) ?_
      refine z_alen hC 0 (hP 1 _ rfl) rfl (y := ((n : Nat) : Int)) rfl dX7_killer_16 ?_
      refine z_cge (tgt := 114) hx hb dX7_killer_17 (by decide) (by omega) (fun c8 => ?_) (fun c8 => ?_)
      · refine z_go 18 288 (z_runS (As := []) (rest := []) hC hml hl.1 (m_J20_empty hE H7 (hO.ext0 (zS_F hS))  ) (lw_S q1223 q1224 q94 q1225) nd_J20_empty rfl rfl (Nat.le_of_ble_eq_true rfl) ⟨Nat.le_of_ble_eq_true rfl, Nat.le_of_ble_eq_true rfl⟩ ⟨zfit (k := 0) (z := 21) rfl rfl (by omega), zfit (k := 0) (z := 308) rfl rfl (by omega)⟩ dX7_killer_114) ⟨zad (k := 0) rfl (by omega), zad (k := 0) rfl (by omega)⟩ hS (fun _ z => z.elim) (fun r H9 locs hp hF hS1 => ?_)
        obtain ⟨_, rfl, rfl⟩ := hp
        have hP := zpk hP hF
        have hP : va_P G.1 zCl ([(qm1, zII G n (fun i => some (ro1 i))), (ql4, zI G n ld)] ++ (zRows G n n ro1 F1 ++ [])) H9 := hP
        have hD : va_D (zA M0 H0) ([(qm1, zII G n (fun i => some (ro1 i))), (ql4, zI G n ld)] ++ (zRows G n n ro1 F1 ++ [])) := hD
        have hS := hS1
        exact z_aret hC hrt hlk hQ hS ⟨zle (z := 21) rfl (by omega), zle (z := 308) rfl (by omega)⟩ ⟨_, rfl, Or.inr ⟨fun c hc z => hle c (by omega) ((hinv.free_iff hp hc).mpr z), rfl⟩⟩ dX7_killer_117
      · have hl4 := hinv.2.2.2.1 fr (by omega)
        have hcl := cnt_le ld fr
        refine lv_aload_n hx hb dX7_killer_20 rfl (lv_at hl 1 rfl) ?_
        refine lv_iload_n hx hb dX7_killer_21 rfl (lv_at hl 0 rfl) ?_
        refine z_iald hC (hP 1 _ rfl) (k := fr) rfl (by omega) (y := ld fr) rfl dX7_killer_22 ?_
        refine lv_iconst (v := iI (-1)) hx hb dX7_killer_23 rfl ?_
        refine z_ceq (tgt := 30) hx hb dX7_killer_24 (by decide) (by omega) (fun c10 => ?_) (fun c10 => ?_)
        · have hlf : ld fr = -1 := by assumption
          have hker := hinv.ker hp (show fr < n by omega) hlf
          refine z_new hC hP hD hS (c1 := 19) (s1 := 291) (fs := [.null, .null, .null]) (ci := 6) rfl in_X7 tyX7_ok q315 q316 q92 df_X7 ⟨zle (z := 21) rfl (by omega), zle (z := 308) rfl (by omega)⟩ ⟨by omega, by omega⟩ (ws' := fun q11 => ([(qm1, zII G n (fun i => some (ro1 i))), (ql4, zI G n ld)] ++ (zRows G n n ro1 F1 ++ [])) ++ [(q11, zOb 6 [.null, .null, .null])]) (fun _ => rfl) dX7_killer_30 (fun q11 H12 hq0q11 hq1q11 hP hD hS hF => ?_)
          have hP : va_P G.1 zCl ([(qm1, zII G n (fun i => some (ro1 i))), (ql4, zI G n ld), (q11, zOb 6 [.null, .null, .null])] ++ (zRows G n n ro1 F1 ++ [])) H12 := zswapP hP
          have hD : va_D (zA M0 H0) ([(qm1, zII G n (fun i => some (ro1 i))), (ql4, zI G n ld), (q11, zOb 6 [.null, .null, .null])] ++ (zRows G n n ro1 F1 ++ [])) := zswapD hD
          refine lv_dup hx hb dX7_killer_33 rfl ?_
          refine lv_aload_n hx hb dX7_killer_34 rfl (lv_at hl 3 rfl) ?_
          refine z_get hC (k := 2) rfl in_X7 (zo hS h.1 id) (by decide) q326 (fun _ h => h) rfl dX7_killer_35 ?_
          refine lv_aload_n hx hb dX7_killer_38 rfl (lv_at hl 3 rfl) ?_
          refine z_get hC (k := 0) rfl in_X7 (zo hS h.1 id) (by decide) q322 (fun _ h => h) rfl dX7_killer_39 ?_
          refine z_go 20 307 (z_runI (As := [.ref x, .ref g]) (rest := [.ref q11]) hC hml hl.1 (m_X7_init hE H12 (hO.ext0 (zS_F hS)) x g p d n kd dv sg q11 (Nat.le_trans hO.1 hq0q11) (hA.ext0 (zS_F hS)) (hP 2 _ rfl)) q319 q92 q317 q318 rfl nd_X7_init rfl rfl (Nat.le_of_ble_eq_true rfl) ⟨Nat.le_of_ble_eq_true rfl, Nat.le_of_ble_eq_true rfl⟩ ⟨zfit (k := 1) (z := 21) rfl rfl (by omega), zfit (k := 16) (z := 308) rfl rfl (by omega)⟩ dX7_killer_42) ⟨zad (k := 1) rfl (by omega), zad (k := 16) rfl (by omega)⟩ hS (fun q z => by subst z; exact hD.2 2 _ rfl) (fun r H13 locs hp hF hS1 => ?_)
          obtain ⟨rfl, rq11, hm, hN⟩ := hp
          obtain ⟨hP, hD⟩ := zjmn hP hD hS.1 hF 2 rfl hm hN
          have hP : va_P G.1 zCl ([(qm1, zII G n (fun i => some (ro1 i))), (ql4, zI G n ld), (q11, zOb 6 [.ref g, .ref rq11, .ref x]), (rq11, zI G n (fun _ => 0))] ++ (zRows G n n ro1 F1 ++ [])) H13 := zswapP (a := [(qm1, zII G n (fun i => some (ro1 i))), (ql4, zI G n ld), (q11, zOb 6 [.ref g, .ref rq11, .ref x])]) (T := (zRows G n n ro1 F1 ++ [])) (b := [(rq11, zI G n (fun _ => 0))]) hP
          have hD : va_D (zA M0 H0) ([(qm1, zII G n (fun i => some (ro1 i))), (ql4, zI G n ld), (q11, zOb 6 [.ref g, .ref rq11, .ref x]), (rq11, zI G n (fun _ => 0))] ++ (zRows G n n ro1 F1 ++ [])) := zswapD (a := [(qm1, zII G n (fun i => some (ro1 i))), (ql4, zI G n ld), (q11, zOb 6 [.ref g, .ref rq11, .ref x])]) (T := (zRows G n n ro1 F1 ++ [])) (b := [(rq11, zI G n (fun _ => 0))]) hD
          have hS := hS1
          refine lv_astore (lv' := [(4, .ref q11), (3, .int (iI ((fr : Nat) : Int))), (2, .ref ql4), (1, .ref qm1), (0, .ref a)]) hx hb dX7_killer_45 hl (by decide) rfl (fun ls hl => ?_)
          refine lv_aload hx hb dX7_killer_47 (lv_at hl 0 rfl) ?_
          refine z_get hC (k := 1) rfl in_X7 (hP 2 _ rfl) (by decide) q324 (fun _ h => h) rfl dX7_killer_49 ?_
          refine lv_iload_n hx hb dX7_killer_52 rfl (lv_at hl 1 rfl) ?_
          refine lv_iconst (v := iI 1) hx hb dX7_killer_53 rfl ?_
          refine z_iast hC hP hD hS 3 (k := fr) rfl rfl (by omega) (ws' := [(qm1, zII G n (fun i => some (ro1 i))), (ql4, zI G n ld), (q11, zOb 6 [.ref g, .ref rq11, .ref x]), (rq11, zI G n (va_up (fun _ => 0) fr 1))] ++ (zRows G n n ro1 F1 ++ [])) rfl dX7_killer_54 (fun H14 locs hP hD hS => ?_)
          refine lv_iconst (v := iI 0) hx hb dX7_killer_55 rfl ?_
          refine lv_istore (lv' := [(5, .int (iI 0)), (4, .ref q11), (3, .int (iI ((fr : Nat) : Int))), (2, .ref ql4), (1, .ref qm1), (0, .ref a)]) hx hb dX7_killer_56 hl (by decide) rfl (fun ls hl => ?_)
          have lp15 : ∀ (dlp15 : Nat) (k : Nat) (f : Nat → Int), fr - k = dlp15 → (k ≤ fr) → (∀ j, j < n → f j = if j = fr then 1 else if j < k then (-(F1 (cnt ld j) fr)) % p else 0) → ∀ (H16 : Heap) (locs : List Loc) (ls : Array Slot), va_P G.1 zCl ([(qm1, zII G n (fun i => some (ro1 i))), (ql4, zI G n ld), (q11, zOb 6 [.ref g, .ref rq11, .ref x]), (rq11, zI G n f)] ++ (zRows G n n ro1 F1 ++ [])) H16 → va_D (zA M0 H0) ([(qm1, zII G n (fun i => some (ro1 i))), (ql4, zI G n ld), (q11, zOb 6 [.ref g, .ref rq11, .ref x]), (rq11, zI G n f)] ++ (zRows G n n ro1 F1 ++ [])) → va_S (zA M0 H0) H0 H16 locs → lv_has ls 6 [(5, .int (iI ((k : Nat) : Int))), (4, .ref q11), (3, .int (iI ((fr : Nat) : Int))), (2, .ref ql4), (1, .ref qm1), (0, .ref a)] → W pp l ee rm_m_X7_killer ss mm args below meth cd H16 locs 20 307 Q (F0 mm 58 ls []) := by
            intro dlp15
            induction dlp15 using Nat.strongRecOn with
            | ind dlp15 ihlp15 =>
              intro k f hdlp15 hk hf H16 locs ls  hP hD hS hl
              refine lv_iload hx hb dX7_killer_58 (lv_at hl 0 rfl) ?_
              refine lv_iload_n hx hb dX7_killer_60 rfl (lv_at hl 2 rfl) ?_
              refine z_cge (tgt := 102) hx hb dX7_killer_61 (by decide) (by omega) (fun c17 => ?_) (fun c17 => ?_)
              · have ek : k = fr := by omega
                have hP : va_P G.1 zCl ([(qm1, zII G n (fun i => some (ro1 i))), (ql4, zI G n ld), (q11, zOb 6 [.ref g, .ref rq11, .ref x]), (rq11, zI G n (kvV p F1 ld fr))] ++ (zRows G n n ro1 F1 ++ [])) H16 := zcI hP 3 rfl (fun j hj => by rw [hf j hj, ek]; unfold kvV; split; rfl; split; (rw [if_pos ⟨by assumption, hle j (by omega)⟩]); rw [if_neg (fun z => by omega)])
                have hD : va_D (zA M0 H0) ([(qm1, zII G n (fun i => some (ro1 i))), (ql4, zI G n ld), (q11, zOb 6 [.ref g, .ref rq11, .ref x]), (rq11, zI G n (kvV p F1 ld fr))] ++ (zRows G n n ro1 F1 ++ [])) := hD.set (p := 3) rfl
                refine lv_aload hx hb dX7_killer_102 (lv_at hl 1 rfl) ?_
                refine z_go 21 308 (z_runS (As := [.ref q11]) (rest := []) hC hml hl.1 (m_J20_of hE H16 (hO.ext0 (zS_F hS)) q11 ) (lw_S q1207 q1208 q94 q1209) nd_J20_of rfl rfl (Nat.le_of_ble_eq_true rfl) ⟨Nat.le_of_ble_eq_true rfl, Nat.le_of_ble_eq_true rfl⟩ ⟨zfit (k := 1) (z := 21) rfl rfl (by omega), zfit (k := 1) (z := 308) rfl rfl (by omega)⟩ dX7_killer_104) ⟨zad (k := 1) rfl (by omega), zad (k := 1) rfl (by omega)⟩ hS (fun _ z => z.elim) (fun r H19 locs hp hF hS1 => ?_)
                obtain ⟨qo18, rfl, hN⟩ := hp
                obtain ⟨hP, hD⟩ := zjn hP hD hS.1 hF hN
                have hP : va_P G.1 zCl ([(qm1, zII G n (fun i => some (ro1 i))), (ql4, zI G n ld), (q11, zOb 6 [.ref g, .ref rq11, .ref x]), (rq11, zI G n (kvV p F1 ld fr)), (qo18, zOb 10 [.ref q11])] ++ (zRows G n n ro1 F1 ++ [])) H19 := zswapP (a := [(qm1, zII G n (fun i => some (ro1 i))), (ql4, zI G n ld), (q11, zOb 6 [.ref g, .ref rq11, .ref x]), (rq11, zI G n (kvV p F1 ld fr))]) (T := (zRows G n n ro1 F1 ++ [])) (b := [(qo18, zOb 10 [.ref q11])]) hP
                have hD : va_D (zA M0 H0) ([(qm1, zII G n (fun i => some (ro1 i))), (ql4, zI G n ld), (q11, zOb 6 [.ref g, .ref rq11, .ref x]), (rq11, zI G n (kvV p F1 ld fr)), (qo18, zOb 10 [.ref q11])] ++ (zRows G n n ro1 F1 ++ [])) := zswapD (a := [(qm1, zII G n (fun i => some (ro1 i))), (ql4, zI G n ld), (q11, zOb 6 [.ref g, .ref rq11, .ref x]), (rq11, zI G n (kvV p F1 ld fr))]) (T := (zRows G n n ro1 F1 ++ [])) (b := [(qo18, zOb 10 [.ref q11])]) hD
                have hS := hS1
                exact z_aret hC hrt hlk hQ hS ⟨zle (z := 21) rfl (by omega), zle (z := 308) rfl (by omega)⟩ ⟨_, rfl, Or.inl ⟨fr, _, ⟨by omega, fun k2 hk2 z => hle k2 hk2 ((hinv.free_iff hp (by omega)).mpr z), hker⟩, _, _, (zdropP hP).sub [4, 2, 3] rfl, zdn ((zdropD hD).sub [4, 2, 3] (by decide) rfl)⟩⟩ dX7_killer_107
              · have hl5 := hinv.2.2.2.1 k (by omega)
                have hck := hle k (by omega)
                have hcl2 := cnt_le ld k
                refine lv_aload_n hx hb dX7_killer_64 rfl (lv_at hl 3 rfl) ?_
                refine lv_iload hx hb dX7_killer_65 (lv_at hl 0 rfl) ?_
                refine z_iald hC (hP 1 _ rfl) (k := k) rfl (by omega) (y := ld k) rfl dX7_killer_67 ?_
                refine lv_iconst (v := iI (-1)) hx hb dX7_killer_68 rfl ?_
                refine z_ceq (tgt := 96) hx hb dX7_killer_69 (by decide) (by omega) (fun c20 => ?_) (fun c20 => ?_)
                · omega
                · have hfk := hinv.1 (cnt ld k) fr (by omega) (by omega)
                  refine lv_aload hx hb dX7_killer_72 (lv_at hl 1 rfl) ?_
                  refine z_get hC (k := 1) rfl in_X7 (hP 2 _ rfl) (by decide) q324 (fun _ h => h) rfl dX7_killer_74 ?_
                  refine lv_iload hx hb dX7_killer_77 (lv_at hl 0 rfl) ?_
                  refine lv_aload_n hx hb dX7_killer_79 rfl (lv_at hl 5 rfl) ?_
                  refine z_get hC (k := 2) rfl in_X7 (zo hS h.1 id) (by decide) q326 (fun _ h => h) rfl dX7_killer_80 ?_
                  refine lv_aload_n hx hb dX7_killer_83 rfl (lv_at hl 4 rfl) ?_
                  refine lv_aload_n hx hb dX7_killer_84 rfl (lv_at hl 3 rfl) ?_
                  refine lv_iload hx hb dX7_killer_85 (lv_at hl 0 rfl) ?_
                  refine z_iald hC (hP 1 _ rfl) (k := k) rfl (by omega) (y := ld k) rfl dX7_killer_87 ?_
                  refine z_top (b := ((cnt ld k : Nat) : Int)) (by omega) ?_
                  refine z_aald hC (hP 0 _ rfl) (k := cnt ld k) rfl (by omega) (q := (ro1 (cnt ld k))) rfl dX7_killer_88 ?_
                  refine lv_iload_n hx hb dX7_killer_89 rfl (lv_at hl 2 rfl) ?_
                  refine z_iald hC (hP (4 + (cnt ld k)) _ (zR_at (L := 4) rfl (by omega))) (k := fr) rfl (by omega) (y := (F1 (cnt ld k)) fr) rfl dX7_killer_90 ?_
                  refine z_neg hx hb (z := -((F1 (cnt ld k)) fr)) dX7_killer_91 rfl ?_
                  refine z_go 20 307 (z_runVN (As := [.int (iI (-((F1 (cnt ld k)) fr)))]) (rest := [.int (iI ((k : Nat) : Int)), .ref rq11]) hC hml hl.1 (m_X1_mod hE H16 (hO.ext0 (zS_F hS)) x la le dr p kn sm (-(F1 (cnt ld k) fr)) (zo hS hx0 id) hp7 (by omega)) q355 q62 q352 q354 qs5 nd_X1_mod rfl (z_rv hC (ci := 0) rfl (zo hS hx0 id) rfl) rfl (Nat.le_of_ble_eq_true rfl) ⟨Nat.le_of_ble_eq_true rfl, Nat.le_of_ble_eq_true rfl⟩ ⟨zfit (k := 0) (z := 21) rfl rfl (by omega), zfit (k := 0) (z := 308) rfl rfl (by omega)⟩ dX7_killer_92) ⟨zad (k := 0) rfl (by omega), zad (k := 0) rfl (by omega)⟩ hS (fun _ z => z.elim) (fun r H21 locs hp hF hS1 => ?_)
                  obtain ⟨_, rfl, rfl⟩ := hp
                  have hP := zpk hP hF
                  have hP : va_P G.1 zCl ([(qm1, zII G n (fun i => some (ro1 i))), (ql4, zI G n ld), (q11, zOb 6 [.ref g, .ref rq11, .ref x]), (rq11, zI G n f)] ++ (zRows G n n ro1 F1 ++ [])) H21 := hP
                  have hD : va_D (zA M0 H0) ([(qm1, zII G n (fun i => some (ro1 i))), (ql4, zI G n ld), (q11, zOb 6 [.ref g, .ref rq11, .ref x]), (rq11, zI G n f)] ++ (zRows G n n ro1 F1 ++ [])) := hD
                  have hS := hS1
                  refine z_iast hC hP hD hS 3 (k := k) rfl rfl (by omega) (ws' := [(qm1, zII G n (fun i => some (ro1 i))), (ql4, zI G n ld), (q11, zOb 6 [.ref g, .ref rq11, .ref x]), (rq11, zI G n (va_up f k ((-(F1 (cnt ld k) fr)) % p)))] ++ (zRows G n n ro1 F1 ++ [])) rfl dX7_killer_95 (fun H22 locs hP hD hS => ?_)
                  refine z_iinc (z := ((k + 1 : Nat) : Int)) (lv' := [(5, .int (iI ((k + 1 : Nat) : Int))), (4, .ref q11), (3, .int (iI ((fr : Nat) : Int))), (2, .ref ql4), (1, .ref qm1), (0, .ref a)]) hx hb dX7_killer_96 hl (k := 0) rfl (by omega) (by decide) rfl (fun ls hl => ?_)
                  refine lv_goto (tgt := 58) hx hb dX7_killer_99 (by decide) ?_
                  exact W.widen (by omega) (by omega) (ihlp15 (fr - (k + 1)) (by omega) (k + 1) (va_up f k ((-(F1 (cnt ld k) fr)) % p)) rfl (by omega) (kv_step hf (by omega) rfl) _ _ _  hP hD hS hl)
          exact W.widen (by omega) (by omega) (lp15 _ 0 (va_up (fun _ => 0) fr 1) rfl (Nat.zero_le _) (fun j hj => by by_cases e : j = fr; (rw [if_pos e, e, va_up_self]); rw [if_neg e, va_up_ne _ _ e, if_neg (Nat.not_lt_zero _)]) _ _ _  hP hD hS hl)
        · refine lv_goto (tgt := 108) hx hb dX7_killer_27 (by decide) ?_
          refine z_iinc (z := ((fr + 1 : Nat) : Int)) (lv' := [(3, .int (iI ((fr + 1 : Nat) : Int))), (2, .ref ql4), (1, .ref qm1), (0, .ref a)]) hx hb dX7_killer_108 hl (k := 0) rfl (by omega) (by decide) rfl (fun ls hl => ?_)
          refine lv_goto (tgt := 14) hx hb dX7_killer_111 (by decide) ?_
          exact W.widen (by omega) (by omega) (ihlp6 (n - (fr + 1)) (by omega) (fr + 1) rfl (by omega) (fun k hk => by by_cases e : k = fr; (rw [e]; assumption); exact hle k (by omega)) _ _ _  hP hD hS hl)
  exact W.widen (by omega) (by omega) (lp6 _ 0 rfl (Nat.zero_le _) (fun k hk => by omega) _ _ _  hP hD hS hl)

