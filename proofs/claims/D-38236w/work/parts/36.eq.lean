/-! THE JDK: lengths of Strings, Strings that are equal -/
set_option maxRecDepth 100000
section EQ
variable {p : Program} {l : Launch} {e : Env} {R : Room} {s : State} {m : MethodId} {args : Array Value} {below : List Frame} {meth : Method} {c : Code} {H : Heap} {locs : List Loc} {cells slots : Nat} {Q : State → Prop}
variable {cc : ByteArray} {pc : Nat} {ls : Array Slot} {rest : List Value} {s0 : State} {G : zG} {own : String}
theorem z_instY (h : zC p l s0 G s m args c own cc) {a ci index : Nat} {fs : List Value} {q : vw_C} {nm : String} (hc : zCl[ci]? = some q) (ha : zAt G a (zOb ci fs) H) (hq : q.1 = nm) (hl : Cond.classLink own index nm ∈ lw_all) (d : decode cc pc = .ok (.instanceof index, 3)) (k : W p l e R s m args below meth c H locs cells slots Q (F0 m (pc + 3) ls (.int (iI 1) :: rest))) : W p l e R s m args below meth c H locs cells slots Q (F0 m pc ls (.ref a :: rest)) := by
  subst hq
  exact va_instS h.x h.b h.o (h.t _ hl) (h.k.1 ci _ hc).2 (z_rv h hc ha rfl) d k
theorem z_getOF (h : zC p l s0 G s m args c own cc) (ho : zO s0 H) {o n dd : String} {v : Value} {q index : Nat} (hOF : va_OF o n dd v q (zN s0) s0 s0.heap) (hq : Cond.fieldLink own index o n dd ∈ lw_all) (d : decode cc pc = .ok (.getfield index, 3)) (kk : W p l e R s m args below meth c H locs cells slots Q (F0 m (pc + 3) ls (v :: rest))) : W p l e R s m args below meth c H locs cells slots Q (F0 m pc ls (.ref q :: rest)) := by
  obtain ⟨cf, k1, fi, f, cell, h1, h2, h3, h4, h5, h6⟩ := zOF h.w ho hOF
  exact W.getf h.x h.b h.o (h.t _ hq) h1 h2 h3 h4 (v := v) h5 rfl rfl d kk
theorem z_rs0 {l : Launch} (hE : zE l s0 G) (hW : s0.WarmedH s.vm) (ho : zO s0 H) : zRv s H (G.2 17) "java/lang/String" := by
  obtain ⟨cell, h1, h2, h3, -⟩ := zOo hW ho (hE.2.2.2.1.2.2.2.2.2.2.1.2.2.2.1 0 (by decide)).1
  exact ⟨cell, h1, h2, h3⟩
theorem z_bret0 {H0 : Heap} {M : Nat → Prop} {P : Option Value → Heap → Prop} {mc ms : Nat} (h : zC p l s0 G s m args c own cc) (hr : meth.sig.returnType = some .byte) (hk : meth.locks = false) (hQ : ∀ t, MQ below (zQ H0 M P) args s mc ms (zA M H0) t → Q t) (hS : va_S (zA M H0) H0 H locs) (hc : cells ≤ mc ∧ slots ≤ ms) (hp : P (some (.int (iI 0))) H) (d : decode cc pc = .ok (.ireturn, 1)) : W p l e R s m args below meth c H locs cells slots Q (F0 m pc ls [.int (iI 0)]) :=
  W.to hQ (W.widen hc.1 hc.2 (W.zret h.x h.b hr rfl (z_q hS hp) hS.2.2 d hk))
end EQ
theorem txL_e (v : Nat → Int) : ∀ k, txL v k = [] ∨ (101 : Int) ∈ txL v k
  | 0 => Or.inl rfl
  | k + 1 => by
    simp only [txL]
    split
    · exact txL_e v k
    · right; simp
theorem txL_48 (v : Nat → Int) (k : Nat) : txL v k ≠ [48] := by
  intro e
  rcases txL_e v k with h | h
  · rw [h] at e; cases e
  · rw [e] at h; simp at h
abbrev rm_m_J14_coder : Room := { frames := 0, cells := 0, slots := 0, locals := 0 }
set_option maxHeartbeats 4000000 in
theorem m_J14_coder {l : Launch} {s0 : State} {G : zG} (hE : zE l s0 G) (H0 : Heap) (hO : zO s0 H0) (q b : Nat) (L : List Int) (hq0 : zAt G q (zOb 12 [.ref b, .int (iI 0), .int (iI 0), .int (iI 0)]) H0) (hb1 : zAt G b (zB G L.length (fun j => L.getD j 0)) H0) (hL : L.length ≤ 1000) : zM l s0 yJ14_coder cJ14_coder 1 (some FieldType.byte) rm_m_J14_coder [.ref q] H0 M0 (ri (fun y _ => y = 0)) := by
  refine z_met hE (by decide +kernel) (Nat.le_of_ble_eq_true rfl) ?_
  intro pp ee ss mm args below meth cd Q ls hC hml hrt hlk hnm hH hQ hS hl
  have hx := hC.x
  have hb := hC.b
  have hl : lv_has ls 1 [(0, .ref q)] := hl
  have hP : va_P G.1 zCl [] H0 := va_nil
  have hD : va_D (zA M0 H0) [] := va_nilD
  refine z_gets hC (hO.ext0 (zS_F hS)) (hE.2.2.2.1.2.2.2.2.1) q493 dJ14_coder_0 ?_
  refine z_zeq (tgt := 13) hx hb dJ14_coder_3 (by decide) (by omega) (fun c1 => ?_) (fun c1 => ?_)
  · omega
  · refine lv_aload_n hx hb dJ14_coder_6 rfl (lv_at hl 0 rfl) ?_
    refine z_get hC (k := 1) rfl in_J14 (zo hS hq0 id) (by decide) q869 (fun _ h => h) rfl dJ14_coder_7 ?_
    refine lv_goto (tgt := 14) hx hb dJ14_coder_10 (by decide) ?_
    exact z_bret0 hC hrt hlk hQ hS ⟨zle (z := 0) rfl (by omega), zle (z := 0) rfl (by omega)⟩ ⟨_, rfl, rfl⟩ dJ14_coder_14

abbrev rm_m_J14_length : Room := { frames := 1, cells := 0, slots := 0, locals := 20 }
set_option maxHeartbeats 4000000 in
theorem m_J14_length {l : Launch} {s0 : State} {G : zG} (hE : zE l s0 G) (H0 : Heap) (hO : zO s0 H0) (q b : Nat) (L : List Int) (hq0 : zAt G q (zOb 12 [.ref b, .int (iI 0), .int (iI 0), .int (iI 0)]) H0) (hb1 : zAt G b (zB G L.length (fun j => L.getD j 0)) H0) (hL : L.length ≤ 1000) : zM l s0 yJ14_length cJ14_length 1 (some FieldType.int) rm_m_J14_length [.ref q] H0 M0 (ri (fun y _ => y = (L.length : Nat))) := by
  refine z_met hE (by decide +kernel) (Nat.le_of_ble_eq_true rfl) ?_
  intro pp ee ss mm args below meth cd Q ls hC hml hrt hlk hnm hH hQ hS hl
  have hx := hC.x
  have hb := hC.b
  have hl : lv_has ls 1 [(0, .ref q)] := hl
  have hP : va_P G.1 zCl [] H0 := va_nil
  have hD : va_D (zA M0 H0) [] := va_nilD
  refine lv_aload_n hx hb dJ14_length_0 rfl (lv_at hl 0 rfl) ?_
  refine z_get hC (k := 0) rfl in_J14 (zo hS hq0 id) (by decide) q868 (fun _ h => h) rfl dJ14_length_1 ?_
  refine z_alen hC 2 (zo hS hb1 id) rfl (y := ((L.length : Nat) : Int)) rfl dJ14_length_4 ?_
  refine lv_aload_n hx hb dJ14_length_5 rfl (lv_at hl 0 rfl) ?_
  refine z_go 0 0 (z_runV (As := []) (rest := [.int (iI ((L.length : Nat) : Int))]) hC hml hl.1 (m_J14_coder hE H0 (hO.ext0 (zS_F hS)) q b L (zo hS hq0 id) (zo hS hb1 id) hL) (lw_V q810 q811 q812 q85 q813) rfl nd_J14_coder rfl (z_rv hC (ci := 12) rfl (zo hS hq0 id) rfl) rfl (Nat.le_of_ble_eq_true rfl) ⟨Nat.le_of_ble_eq_true rfl, Nat.le_of_ble_eq_true rfl⟩ ⟨zfit (k := 0) (z := 0) rfl rfl (by omega), zfit (k := 0) (z := 0) rfl rfl (by omega)⟩ dJ14_length_6) ⟨zad (k := 0) rfl (by omega), zad (k := 0) rfl (by omega)⟩ hS (fun _ z => z.elim) (fun r H1 locs hp hF hS1 => ?_)
  obtain ⟨_, rfl, rfl⟩ := hp
  have hP := zpk hP hF
  have hP : va_P G.1 zCl ([]) H1 := hP
  have hD : va_D (zA M0 H0) ([]) := hD
  have hS := hS1
  refine z_shr hx hb (i := L.length) (j := 0) (n := L.length / 2 ^ 0) dJ14_length_9 rfl rfl (by omega) rfl ?_
  refine z_top (b := ((L.length : Nat) : Int)) (by simp) ?_
  exact z_iret hC hrt hlk hQ hS ⟨zle (z := 0) rfl (by omega), zle (z := 0) rfl (by omega)⟩ ⟨_, rfl, rfl⟩ dJ14_length_10

abbrev rm_m_J14_coder_k : Room := { frames := 0, cells := 0, slots := 0, locals := 0 }
set_option maxHeartbeats 4000000 in
theorem m_J14_coder_k {l : Launch} {s0 : State} {G : zG} (hE : zE l s0 G) (H0 : Heap) (hO : zO s0 H0)   : zM l s0 yJ14_coder cJ14_coder 1 (some FieldType.byte) rm_m_J14_coder_k [.ref (G.2 17)] H0 M0 (ri (fun y _ => y = 0)) := by
  refine z_met hE (by decide +kernel) (Nat.le_of_ble_eq_true rfl) ?_
  intro pp ee ss mm args below meth cd Q ls hC hml hrt hlk hnm hH hQ hS hl
  have hx := hC.x
  have hb := hC.b
  have hl : lv_has ls 1 [(0, .ref (G.2 17))] := hl
  have hP : va_P G.1 zCl [] H0 := va_nil
  have hD : va_D (zA M0 H0) [] := va_nilD
  refine z_gets hC (hO.ext0 (zS_F hS)) (hE.2.2.2.1.2.2.2.2.1) q493 dJ14_coder_0 ?_
  refine z_zeq (tgt := 13) hx hb dJ14_coder_3 (by decide) (by omega) (fun c1 => ?_) (fun c1 => ?_)
  · omega
  · refine lv_aload_n hx hb dJ14_coder_6 rfl (lv_at hl 0 rfl) ?_
    refine z_getOF hC (hO.ext0 (zS_F hS)) (hE.2.2.2.1.2.2.2.2.2.2.1.2.2.2.1 0 (by decide)).2.1 q869 dJ14_coder_7 ?_
    refine lv_goto (tgt := 14) hx hb dJ14_coder_10 (by decide) ?_
    exact z_bret0 hC hrt hlk hQ hS ⟨zle (z := 0) rfl (by omega), zle (z := 0) rfl (by omega)⟩ ⟨_, rfl, rfl⟩ dJ14_coder_14

abbrev rm_m_J14_length_k : Room := { frames := 1, cells := 0, slots := 0, locals := 20 }
set_option maxHeartbeats 4000000 in
theorem m_J14_length_k {l : Launch} {s0 : State} {G : zG} (hE : zE l s0 G) (H0 : Heap) (hO : zO s0 H0)   : zM l s0 yJ14_length cJ14_length 1 (some FieldType.int) rm_m_J14_length_k [.ref (G.2 17)] H0 M0 (ri (fun y _ => y = 1)) := by
  refine z_met hE (by decide +kernel) (Nat.le_of_ble_eq_true rfl) ?_
  intro pp ee ss mm args below meth cd Q ls hC hml hrt hlk hnm hH hQ hS hl
  have hx := hC.x
  have hb := hC.b
  have hl : lv_has ls 1 [(0, .ref (G.2 17))] := hl
  have hP : va_P G.1 zCl [] H0 := va_nil
  have hD : va_D (zA M0 H0) [] := va_nilD
  refine lv_aload_n hx hb dJ14_length_0 rfl (lv_at hl 0 rfl) ?_
  refine z_getOF hC (hO.ext0 (zS_F hS)) (hE.2.2.2.1.2.2.2.2.2.2.1.2.2.2.1 0 (by decide)).2.2.1 q868 dJ14_length_1 ?_
  refine z_tlen hC (hO.ext0 (zS_F hS)) (hE.2.2.2.1.2.2.2.2.2.2.1.2.2.2.1 0 (by decide)).2.2.2 (y := 1) rfl dJ14_length_4 ?_
  refine lv_aload_n hx hb dJ14_length_5 rfl (lv_at hl 0 rfl) ?_
  refine z_go 0 0 (z_runV (As := []) (rest := [.int (iI 1)]) hC hml hl.1 (m_J14_coder_k hE H0 (hO.ext0 (zS_F hS))  ) (lw_V q810 q811 q812 q85 q813) rfl nd_J14_coder rfl (z_rs0 hE hC.w (hO.ext0 (zS_F hS))) rfl (Nat.le_of_ble_eq_true rfl) ⟨Nat.le_of_ble_eq_true rfl, Nat.le_of_ble_eq_true rfl⟩ ⟨zfit (k := 0) (z := 0) rfl rfl (by omega), zfit (k := 0) (z := 0) rfl rfl (by omega)⟩ dJ14_length_6) ⟨zad (k := 0) rfl (by omega), zad (k := 0) rfl (by omega)⟩ hS (fun _ z => z.elim) (fun r H1 locs hp hF hS1 => ?_)
  obtain ⟨_, rfl, rfl⟩ := hp
  have hP := zpk hP hF
  have hP : va_P G.1 zCl ([]) H1 := hP
  have hD : va_D (zA M0 H0) ([]) := hD
  have hS := hS1
  refine z_shr hx hb (i := 1) (j := 0) (n := 1 / 2 ^ 0) dJ14_length_9 rfl rfl (by omega) rfl ?_
  refine z_top (b := 1) (by decide) ?_
  exact z_iret hC hrt hlk hQ hS ⟨zle (z := 0) rfl (by omega), zle (z := 0) rfl (by omega)⟩ ⟨_, rfl, rfl⟩ dJ14_length_10

abbrev rm_m_J22_equals : Room := { frames := 0, cells := 0, slots := 0, locals := 0 }
set_option maxHeartbeats 4000000 in
theorem m_J22_equals {l : Launch} {s0 : State} {G : zG} (hE : zE l s0 G) (H0 : Heap) (hO : zO s0 H0) (a b n : Nat) (f : Nat → Int) (ha : zAt G a (zB G n f) H0) (hb1 : zAt G b (zB G n f) H0) (hn : n ≤ 1000) (hf : ∀ j, j < n → zi (f j)) : zM l s0 yJ22_equals cJ22_equals 3 (some FieldType.boolean) rm_m_J22_equals [.ref a, .ref b] H0 M0 (ri (fun y _ => y = 1)) := by
  refine z_met hE (by decide +kernel) (Nat.le_of_ble_eq_true rfl) ?_
  intro pp ee ss mm args below meth cd Q ls hC hml hrt hlk hnm hH hQ hS hl
  have hx := hC.x
  have hb := hC.b
  have hl : lv_has ls 3 [(0, .ref a), (1, .ref b)] := hl
  have hP : va_P G.1 zCl [] H0 := va_nil
  have hD : va_D (zA M0 H0) [] := va_nilD
  refine lv_aload_n hx hb dJ22_equals_0 rfl (lv_at hl 0 rfl) ?_
  refine z_alen hC 2 (zo hS ha id) rfl (y := ((n : Nat) : Int)) rfl dJ22_equals_1 ?_
  refine lv_aload_n hx hb dJ22_equals_2 rfl (lv_at hl 1 rfl) ?_
  refine z_alen hC 2 (zo hS hb1 id) rfl (y := ((n : Nat) : Int)) rfl dJ22_equals_3 ?_
  refine z_cne (tgt := 34) hx hb dJ22_equals_4 (by decide) (by omega) (fun c1 => ?_) (fun c1 => ?_)
  · omega
  · refine lv_iconst (v := iI 0) hx hb dJ22_equals_7 rfl ?_
    refine lv_istore_n (lv' := [(2, .int (iI 0)), (0, .ref a), (1, .ref b)]) hx hb dJ22_equals_8 rfl hl (by decide) rfl (fun ls hl => ?_)
    have lp2 : ∀ (dlp2 : Nat) (k : Nat), n - k = dlp2 → (k ≤ n) → ∀ (H3 : Heap) (locs : List Loc) (ls : Array Slot), va_P G.1 zCl ([]) H3 → va_D (zA M0 H0) ([]) → va_S (zA M0 H0) H0 H3 locs → lv_has ls 3 [(2, .int (iI ((k : Nat) : Int))), (0, .ref a), (1, .ref b)] → W pp l ee rm_m_J22_equals ss mm args below meth cd H3 locs 0 0 Q (F0 mm 9 ls []) := by
      intro dlp2
      induction dlp2 using Nat.strongRecOn with
      | ind dlp2 ihlp2 =>
        intro k hdlp2 hk H3 locs ls  hP hD hS hl
        refine lv_iload_n hx hb dJ22_equals_9 rfl (lv_at hl 0 rfl) ?_
        refine lv_aload_n hx hb dJ22_equals_10 rfl (lv_at hl 1 rfl) ?_
        refine z_alen hC 2 (zo hS ha id) rfl (y := ((n : Nat) : Int)) rfl dJ22_equals_11 ?_
        refine z_cge (tgt := 32) hx hb dJ22_equals_12 (by decide) (by omega) (fun c4 => ?_) (fun c4 => ?_)
        · refine lv_iconst (v := iI 1) hx hb dJ22_equals_32 rfl ?_
          exact z_zret hC hrt hlk hQ hS ⟨zle (z := 0) rfl (by omega), zle (z := 0) rfl (by omega)⟩ (by omega) ⟨_, rfl, rfl⟩ dJ22_equals_33
        · have hfk := hf k (by omega)
          refine lv_aload_n hx hb dJ22_equals_15 rfl (lv_at hl 1 rfl) ?_
          refine lv_iload_n hx hb dJ22_equals_16 rfl (lv_at hl 0 rfl) ?_
          refine z_bald hC (zo hS ha id) (k := k) rfl (by omega) (y := f k) rfl dJ22_equals_17 ?_
          refine lv_aload_n hx hb dJ22_equals_18 rfl (lv_at hl 2 rfl) ?_
          refine lv_iload_n hx hb dJ22_equals_19 rfl (lv_at hl 0 rfl) ?_
          refine z_bald hC (zo hS hb1 id) (k := k) rfl (by omega) (y := f k) rfl dJ22_equals_20 ?_
          refine z_ceq (tgt := 26) hx hb dJ22_equals_21 (by decide) (by omega) (fun c5 => ?_) (fun c5 => ?_)
          · refine z_iinc (z := ((k + 1 : Nat) : Int)) (lv' := [(2, .int (iI ((k + 1 : Nat) : Int))), (0, .ref a), (1, .ref b)]) hx hb dJ22_equals_26 hl (k := 0) rfl (by omega) (by decide) rfl (fun ls hl => ?_)
            refine lv_goto (tgt := 9) hx hb dJ22_equals_29 (by decide) ?_
            exact W.widen (by omega) (by omega) (ihlp2 (n - (k + 1)) (by omega) (k + 1) rfl (by omega) _ _ _  hP hD hS hl)
          · omega
    exact W.widen (by omega) (by omega) (lp2 _ 0 rfl (Nat.zero_le _) _ _ _  hP hD hS hl)

abbrev rm_m_J14_equals_1 : Room := { frames := 0, cells := 0, slots := 0, locals := 0 }
set_option maxHeartbeats 4000000 in
theorem m_J14_equals_1 {l : Launch} {s0 : State} {G : zG} (hE : zE l s0 G) (H0 : Heap) (hO : zO s0 H0) (q : Nat)  : zM l s0 yJ14_equals cJ14_equals 3 (some FieldType.boolean) rm_m_J14_equals_1 [.ref q, .ref q] H0 M0 (ri (fun y _ => y = 1)) := by
  refine z_met hE (by decide +kernel) (Nat.le_of_ble_eq_true rfl) ?_
  intro pp ee ss mm args below meth cd Q ls hC hml hrt hlk hnm hH hQ hS hl
  have hx := hC.x
  have hb := hC.b
  have hl : lv_has ls 3 [(0, .ref q), (1, .ref q)] := hl
  have hP : va_P G.1 zCl [] H0 := va_nil
  have hD : va_D (zA M0 H0) [] := va_nilD
  refine lv_aload_n hx hb dJ14_equals_0 rfl (lv_at hl 0 rfl) ?_
  refine lv_aload_n hx hb dJ14_equals_1 rfl (lv_at hl 1 rfl) ?_
  refine z_ane (tgt := 7) hx hb dJ14_equals_2 (by decide)   (fun c1 => ?_) (fun c1 => ?_)
  · exact absurd rfl c1
  · refine lv_iconst (v := iI 1) hx hb dJ14_equals_5 rfl ?_
    exact z_zret hC hrt hlk hQ hS ⟨zle (z := 0) rfl (by omega), zle (z := 0) rfl (by omega)⟩ (by omega) ⟨_, rfl, rfl⟩ dJ14_equals_6

abbrev rm_m_J14_equals : Room := { frames := 1, cells := 0, slots := 0, locals := 22 }
set_option maxHeartbeats 4000000 in
theorem m_J14_equals {l : Launch} {s0 : State} {G : zG} (hE : zE l s0 G) (H0 : Heap) (hO : zO s0 H0) (q b q2 b2 : Nat) (L : List Int) (hq0 : zAt G q (zOb 12 [.ref b, .int (iI 0), .int (iI 0), .int (iI 0)]) H0) (hb1 : zAt G b (zB G L.length (fun j => L.getD j 0)) H0) (hL : L.length ≤ 1000) (hq2 : zAt G q2 (zOb 12 [.ref b2, .int (iI 0), .int (iI 0), .int (iI 0)]) H0) (hb2 : zAt G b2 (zB G L.length (fun j => L.getD j 0)) H0) (hf : ∀ j, j < L.length → zi (L.getD j 0)) : zM l s0 yJ14_equals cJ14_equals 3 (some FieldType.boolean) rm_m_J14_equals [.ref q, .ref q2] H0 M0 (ri (fun y _ => y = 1)) := by
  refine z_met hE (by decide +kernel) (Nat.le_of_ble_eq_true rfl) ?_
  intro pp ee ss mm args below meth cd Q ls hC hml hrt hlk hnm hH hQ hS hl
  have hx := hC.x
  have hb := hC.b
  have hl : lv_has ls 3 [(0, .ref q), (1, .ref q2)] := hl
  have hP : va_P G.1 zCl [] H0 := va_nil
  have hD : va_D (zA M0 H0) [] := va_nilD
  refine lv_aload_n hx hb dJ14_equals_0 rfl (lv_at hl 0 rfl) ?_
  refine lv_aload_n hx hb dJ14_equals_1 rfl (lv_at hl 1 rfl) ?_
  refine z_ane (tgt := 7) hx hb dJ14_equals_2 (by decide)   (fun c1 => ?_) (fun c1 => ?_)
  · refine lv_aload_n hx hb dJ14_equals_7 rfl (lv_at hl 1 rfl) ?_
    refine z_instY hC (ci := 12) rfl (zo hS hq2 id) rfl q492 dJ14_equals_8 ?_
    refine z_zeq (tgt := 54) hx hb dJ14_equals_11 (by decide) (by omega) (fun c2 => ?_) (fun c2 => ?_)
    · omega
    · refine lv_aload_n hx hb dJ14_equals_14 rfl (lv_at hl 1 rfl) ?_
      refine z_cast hC (ci := 12) rfl (zo hS hq2 id) rfl q492 dJ14_equals_15 ?_
      refine lv_astore_n (lv' := [(2, .ref q2), (0, .ref q), (1, .ref q2)]) hx hb dJ14_equals_18 rfl hl (by decide) rfl (fun ls hl => ?_)
      refine z_gets hC (hO.ext0 (zS_F hS)) (hE.2.2.2.1.2.2.2.2.1) q493 dJ14_equals_19 ?_
      refine z_zeq (tgt := 36) hx hb dJ14_equals_22 (by decide) (by omega) (fun c3 => ?_) (fun c3 => ?_)
      · omega
      · refine lv_aload_n hx hb dJ14_equals_25 rfl (lv_at hl 1 rfl) ?_
        refine z_get hC (k := 1) rfl in_J14 (zo hS hq0 id) (by decide) q869 (fun _ h => h) rfl dJ14_equals_26 ?_
        refine lv_aload_n hx hb dJ14_equals_29 rfl (lv_at hl 0 rfl) ?_
        refine z_get hC (k := 1) rfl in_J14 (zo hS hq2 id) (by decide) q869 (fun _ h => h) rfl dJ14_equals_30 ?_
        refine z_cne (tgt := 54) hx hb dJ14_equals_33 (by decide) (by omega) (fun c4 => ?_) (fun c4 => ?_)
        · omega
        · refine lv_aload_n hx hb dJ14_equals_36 rfl (lv_at hl 1 rfl) ?_
          refine z_get hC (k := 0) rfl in_J14 (zo hS hq0 id) (by decide) q868 (fun _ h => h) rfl dJ14_equals_37 ?_
          refine lv_aload_n hx hb dJ14_equals_40 rfl (lv_at hl 0 rfl) ?_
          refine z_get hC (k := 0) rfl in_J14 (zo hS hq2 id) (by decide) q868 (fun _ h => h) rfl dJ14_equals_41 ?_
          refine z_go 0 0 (z_runS (As := [.ref b, .ref b2]) (rest := []) hC hml hl.1 (m_J22_equals hE H0 (hO.ext0 (zS_F hS)) b b2 L.length (fun j => L.getD j 0) (zo hS hb1 id) (zo hS hb2 id) hL hf) (lw_S q495 q496 q96 q497) nd_J22_equals rfl rfl (Nat.le_of_ble_eq_true rfl) ⟨Nat.le_of_ble_eq_true rfl, Nat.le_of_ble_eq_true rfl⟩ ⟨zfit (k := 0) (z := 0) rfl rfl (by omega), zfit (k := 0) (z := 0) rfl rfl (by omega)⟩ dJ14_equals_44) ⟨zad (k := 0) rfl (by omega), zad (k := 0) rfl (by omega)⟩ hS (fun _ z => z.elim) (fun r H5 locs hp hF hS1 => ?_)
          obtain ⟨_, rfl, rfl⟩ := hp
          have hP := zpk hP hF
          have hP : va_P G.1 zCl ([]) H5 := hP
          have hD : va_D (zA M0 H0) ([]) := hD
          have hS := hS1
          refine z_zeq (tgt := 54) hx hb dJ14_equals_47 (by decide) (by omega) (fun c6 => ?_) (fun c6 => ?_)
          · omega
          · refine lv_iconst (v := iI 1) hx hb dJ14_equals_50 rfl ?_
            refine lv_goto (tgt := 55) hx hb dJ14_equals_51 (by decide) ?_
            exact z_zret hC hrt hlk hQ hS ⟨zle (z := 0) rfl (by omega), zle (z := 0) rfl (by omega)⟩ (by omega) ⟨_, rfl, rfl⟩ dJ14_equals_55
  · refine lv_iconst (v := iI 1) hx hb dJ14_equals_5 rfl ?_
    exact z_zret hC hrt hlk hQ hS ⟨zle (z := 0) rfl (by omega), zle (z := 0) rfl (by omega)⟩ (by omega) ⟨_, rfl, rfl⟩ dJ14_equals_6

