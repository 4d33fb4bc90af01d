/-! THE CLASS: matrices of multiplication; rows are solved -/
set_option maxRecDepth 100000
def mxV (p : Int) (v : Nat → Int) (sg : Nat → Nat → Int) (left r c : Nat) : Int := (v (r ^^^ c) * (if left = 0 then sg c (r ^^^ c) else sg (r ^^^ c) c)) % p
def mxD (p : Int) (v : Nat → Int) (sg : Nat → Nat → Int) (left i j : Nat) (F : Nat → Nat → Int) (n : Nat) : Prop := ∀ r c, r < n → c < n → F r c = if r ^^^ c < i ∨ (r ^^^ c = i ∧ c < j) then mxV p v sg left r c else 0
theorem mxD_step {p : Int} {v : Nat → Int} {sg : Nat → Nat → Int} {left i j n : Nat} {F : Nat → Nat → Int} {x : Int} (h : mxD p v sg left i j F n) (hx : x = (v i * (if left = 0 then sg j i else sg i j)) % p) : mxD p v sg left i (j + 1) (fun jj => if jj = i ^^^ j then va_up (F (i ^^^ j)) j x else F jj) n := by
  intro r c hr hc
  have h0 := h r c hr hc
  show (if r = i ^^^ j then va_up (F (i ^^^ j)) j x else F r) c = _
  by_cases e : r = i ^^^ j
  · subst e
    rw [if_pos rfl]
    by_cases ec : c = j
    · subst ec
      have e2 : i ^^^ c ^^^ c = i := by rw [Nat.xor_assoc, Nat.xor_self, Nat.xor_zero]
      rw [va_up_self, e2, if_pos (Or.inr ⟨rfl, by omega⟩), mxV, e2, hx]
    · rw [va_up_ne _ _ ec, h0]
      have e3 : i ^^^ j ^^^ c ≠ i ∨ c = j := by
        by_cases e4 : i ^^^ j ^^^ c = i
        · right
          have := congrArg (fun z => i ^^^ z) e4
          simp only [← Nat.xor_assoc, Nat.xor_self, Nat.zero_xor] at this
          have t2 := congrArg (fun z => j ^^^ z) this
          simp only [← Nat.xor_assoc, Nat.xor_self, Nat.zero_xor, Nat.xor_zero] at t2
          exact t2
        · exact Or.inl e4
      rcases e3 with e3 | e3
      · congr 1; simp only [e3, false_and]
      · exact absurd e3 ec
  · rw [if_neg e, h0]
    by_cases e3 : r ^^^ c = i
    · have ec : c ≠ j := fun z => e (by rw [← e3, z, Nat.xor_assoc, Nat.xor_self, Nat.xor_zero])
      congr 1
      simp only [e3, true_and, Nat.lt_irrefl, false_or]
      exact propext ⟨fun z => by omega, fun z => by omega⟩
    · simp only [e3, false_and]
theorem mxD_row {p : Int} {v : Nat → Int} {sg : Nat → Nat → Int} {left i n : Nat} {F : Nat → Nat → Int} (h : mxD p v sg left i n F n) : mxD p v sg left (i + 1) 0 F n := by
  intro r c hr hc
  rw [h r c hr hc]
  congr 1
  exact propext ⟨fun z => by omega, fun z => by omega⟩
theorem mxD_0 (p : Int) (v : Nat → Int) (sg : Nat → Nat → Int) (left n : Nat) : mxD p v sg left 0 0 (fun _ _ => 0) n := by
  intro r c hr hc
  rw [if_neg (by omega)]
theorem mxV_in {p : Int} (hp : pr357 p) (v : Nat → Int) (sg : Nat → Nat → Int) (left r c : Nat) : 0 ≤ mxV p v sg left r c ∧ mxV p v sg left r c < p := md_in hp _
theorem sw_up {ro : Nat → Nat} {a b i : Nat} : va_up (va_up (fun i => some (ro i)) b (some (ro a))) a (some (ro b)) i = some (ro (swp a b i)) := by
  unfold swp
  by_cases e1 : i = a
  · rw [if_pos e1, e1, va_up_self]
  · rw [if_neg e1, va_up_ne _ _ e1]
    by_cases e2 : i = b
    · rw [if_pos e2, e2, va_up_self]
    · rw [if_neg e2, va_up_ne _ _ e2]
theorem slB_step {n nx k : Nat} {F2 F3 : Nat → Nat → Int} {S : Nat → Int} {x : Int} (h : ∀ i k9, i < n → k9 < n → F3 i k9 = if i = nx ∧ k9 < k then S k9 else F2 i k9) (hx : x = S k) : ∀ i k9, i < n → k9 < n → (fun jj => if jj = nx then va_up (F3 nx) k x else F3 jj) i k9 = if i = nx ∧ k9 < k + 1 then S k9 else F2 i k9 := by
  intro i k9 hi hk
  show (if i = nx then va_up (F3 nx) k x else F3 i) k9 = _
  by_cases e : i = nx
  · subst e
    rw [if_pos rfl]
    by_cases e2 : k9 = k
    · subst e2; rw [va_up_self, hx, if_pos ⟨rfl, by omega⟩]
    · rw [va_up_ne _ _ e2, h _ _ hi hk]
      congr 1
      exact propext ⟨fun z => ⟨rfl, by omega⟩, fun z => ⟨rfl, by omega⟩⟩
  · rw [if_neg e, h i k9 hi hk, if_neg (fun z => e z.1), if_neg (fun z => e z.1)]
theorem slD_step {n row k2 : Nat} {F4 F5 S : Nat → Nat → Int} {x : Int} (h : ∀ i k, i < n → k < n → F5 i k = if i = row ∧ k < k2 then S i k else F4 i k) (hx : x = S row k2) : ∀ i k, i < n → k < n → (fun jj => if jj = row then va_up (F5 row) k2 x else F5 jj) i k = if i = row ∧ k < k2 + 1 then S i k else F4 i k := by
  intro i k hi hk
  show (if i = row then va_up (F5 row) k2 x else F5 i) k = _
  by_cases e : i = row
  · subst e
    rw [if_pos rfl]
    by_cases e2 : k = k2
    · subst e2; rw [va_up_self, hx, if_pos ⟨rfl, by omega⟩]
    · rw [va_up_ne _ _ e2, h _ _ hi hk]
      congr 1
      exact propext ⟨fun z => ⟨rfl, by omega⟩, fun z => ⟨rfl, by omega⟩⟩
  · rw [if_neg e, h i k hi hk, if_neg (fun z => e z.1), if_neg (fun z => e z.1)]
theorem slD_fin {n row k2 : Nat} {F4 F5 S T : Nat → Nat → Int} (h4 : ∀ i k, i < n → k < n → F4 i k = if i < row then S i k else T i k) (h : ∀ i k, i < n → k < n → F5 i k = if i = row ∧ k < k2 then S i k else F4 i k) (hr : row < n) (hh : ∀ k, k < n → k < k2 ∨ S row k = F4 row k) : ∀ i k, i < n → k < n → F5 i k = if i < row + 1 then S i k else T i k := by
  intro i k hi hk
  rw [h i k hi hk]
  by_cases e : i = row
  · subst e
    rw [if_pos (show i < i + 1 by omega)]
    split
    · rfl
    · rename_i hn
      rcases hh k hk with z | z
      · exact absurd ⟨rfl, z⟩ hn
      · exact z.symm
  · rw [if_neg (fun z => e z.1), h4 i k hi hk]
    congr 1
    exact propext ⟨fun z => by omega, fun z => by omega⟩
abbrev MXW (G : zG) (n q : Nat) (ro : Nat → Nat) (F : Nat → Nat → Int) : va_W := [(q, zII G n (fun i => some (ro i)))] ++ (zRows G n n ro F ++ [])
theorem mx_no {l : Launch} {s0 : State} {G : zG} {H : Heap} {n q a ci : Nat} {ro : Nat → Nat} {F : Nat → Nat → Int} {fs : List Value} {c : vw_C} {e : va_E} (hE : zE l s0 G) (hP : va_P G.1 zCl (MXW G n q ro F) H) (hx : zAt G a (zOb ci fs) H) (hz : (a, e) ∈ MXW G n q ro F) (hc : zCl[ci]? = some c := by rfl) : False := by
  obtain ⟨j, hj⟩ := List.mem_iff_getElem?.mp hz
  have h1 : zAt G a e H := hP j _ hj
  unfold MXW at hz
  rw [List.append_nil] at hz
  rcases List.mem_append.mp hz with h | h
  · have h2 := List.mem_singleton.mp h
    cases h2
    exact z_noArr hE (ci := ci) (t := 4) hc hx rfl h1 rfl
  · unfold zRows at h
    obtain ⟨i, -, h2⟩ := List.mem_map.mp h
    cases h2
    exact z_noArr hE (ci := ci) (t := 0) hc hx rfl h1 rfl
abbrev rm_m_X7_matrix : Room := { frames := 2, cells := 17, slots := 272, locals := 43 }
set_option maxHeartbeats 4000000 in
theorem m_X7_matrix {l : Launch} {s0 : State} {G : zG} (hE : zE l s0 G) (H0 : Heap) (hO : zO s0 H0) (x g : Nat) (p : Int) (d n kd : Nat) (dv : Nat → Int) (sg : Nat → Nat → Int) (a r : Nat) (v : Nat → Int) (b : Nat) (hA : zAg G x g p d n kd dv sg H0) (h : zEl G x g a r n v H0) (hv : rw_ok p n v) (hb1 : b ≤ 1) : zM l s0 yX7_matrix cX7_matrix 6 (some (FieldType.array (FieldType.array FieldType.int))) rm_m_X7_matrix [.ref a, .int (iI ((b : Nat) : Int))] H0 M0 (rr (fun q h1 => ∃ F, (∀ r c, r < n → c < n → F r c = mxV p v sg b r c) ∧ NW G H0 h1 (MXW G n q (fun i => q + 1 + i) F))) := by
  refine z_met hE (by decide +kernel) (Nat.le_of_ble_eq_true rfl) ?_
  intro pp ee ss mm args below meth cd Q ls hC hml hrt hlk hnm hH hQ hS hl
  have hx := hC.x
  have hb := hC.b
  have hl : lv_has ls 6 [(0, .ref a), (1, .int (iI ((b : Nat) : Int)))] := hl
  have hP : va_P G.1 zCl [] H0 := va_nil
  have hD : va_D (zA M0 H0) [] := va_nilD
  obtain ⟨la, le, dr, kn, sm, dl, da, ml, so, dm, ro, hx0, hg0, hL0, hso, hro, hfa⟩ := id hA
  obtain ⟨hp, hd4, hn2, hkd, hdv, hsg⟩ := hfa
  obtain ⟨hn16, hp7⟩ := hA.n
  refine lv_aload_n hx hb dX7_matrix_0 rfl (lv_at hl 0 rfl) ?_
  refine z_get hC (k := 1) rfl in_X7 (zo hS h.1 id) (by decide) q324 (fun _ h => h) rfl dX7_matrix_1 ?_
  refine z_alen hC 0 (zo hS h.2 id) rfl (y := ((n : Nat) : Int)) rfl dX7_matrix_4 ?_
  refine lv_istore_n (lv' := [(2, .int (iI ((n : Nat) : Int))), (0, .ref a), (1, .int (iI ((b : Nat) : Int)))]) hx hb dX7_matrix_5 rfl hl (by decide) rfl (fun ls hl => ?_)
  refine lv_iload_n hx hb dX7_matrix_6 rfl (lv_at hl 0 rfl) ?_
  refine lv_iload_n hx hb dX7_matrix_7 rfl (lv_at hl 0 rfl) ?_
  refine z_multi hC hP hD hS (n := n) (c1 := 17) (s1 := 272) q535 rfl rfl (by omega) ⟨zle (z := 17) rfl (by omega), zle (z := 272) rfl (by omega)⟩ ⟨by omega, by omega⟩ dX7_matrix_8 (fun q1 H2 hq0q1 hq1q1 hP hD hS hF => ?_)
  have hP : va_P G.1 zCl ([(q1, zII G n (fun i => some (q1 + 1 + i)))] ++ (zRows G n n (fun i => q1 + 1 + i) (fun _ _ => 0) ++ [])) H2 := hP
  have hD : va_D (zA M0 H0) ([(q1, zII G n (fun i => some (q1 + 1 + i)))] ++ (zRows G n n (fun i => q1 + 1 + i) (fun _ _ => 0) ++ [])) := hD
  refine lv_astore_n (lv' := [(3, .ref q1), (2, .int (iI ((n : Nat) : Int))), (0, .ref a), (1, .int (iI ((b : Nat) : Int)))]) hx hb dX7_matrix_12 rfl hl (by decide) rfl (fun ls hl => ?_)
  refine lv_iconst (v := iI 0) hx hb dX7_matrix_13 rfl ?_
  refine lv_istore (lv' := [(4, .int (iI 0)), (3, .ref q1), (2, .int (iI ((n : Nat) : Int))), (0, .ref a), (1, .int (iI ((b : Nat) : Int)))]) hx hb dX7_matrix_14 hl (by decide) rfl (fun ls hl => ?_)
  have lp3 : ∀ (dlp3 : Nat) (i : Nat) (F : Nat → Nat → Int), n - i = dlp3 → (i ≤ n) → (mxD p v sg b i 0 F n) → ∀ (H4 : Heap) (locs : List Loc) (ls : Array Slot), va_P G.1 zCl ([(q1, zII G n (fun i => some (q1 + 1 + i)))] ++ (zRows G n n (fun i => q1 + 1 + i) F ++ [])) H4 → va_D (zA M0 H0) ([(q1, zII G n (fun i => some (q1 + 1 + i)))] ++ (zRows G n n (fun i => q1 + 1 + i) F ++ [])) → va_S (zA M0 H0) H0 H4 locs → lv_has ls 6 [(4, .int (iI ((i : Nat) : Int))), (3, .ref q1), (2, .int (iI ((n : Nat) : Int))), (0, .ref a), (1, .int (iI ((b : Nat) : Int)))] → W pp l ee rm_m_X7_matrix ss mm args below meth cd H4 locs 17 272 Q (F0 mm 16 ls []) := by
    intro dlp3
    induction dlp3 using Nat.strongRecOn with
    | ind dlp3 ihlp3 =>
      intro i F hdlp3 hi hf H4 locs ls  hP hD hS hl
      refine lv_iload hx hb dX7_matrix_16 (lv_at hl 0 rfl) ?_
      refine lv_iload_n hx hb dX7_matrix_18 rfl (lv_at hl 2 rfl) ?_
      refine z_cge (tgt := 101) hx hb dX7_matrix_19 (by decide) (by omega) (fun c5 => ?_) (fun c5 => ?_)
      · have ei : i = n := by omega
        refine lv_aload_n hx hb dX7_matrix_101 rfl (lv_at hl 1 rfl) ?_
        exact z_aretA hC hrt hlk hQ hS ⟨zle (z := 17) rfl (by omega), zle (z := 272) rfl (by omega)⟩ ⟨_, rfl, F, fun r c hr hc => by rw [hf r c hr hc, if_pos (Or.inl (by rw [ei]; exact xor_lt hn2 hr hc))], hP, zdn hD⟩ dX7_matrix_102
      · have hvi := hv i (by omega)
        refine lv_iconst (v := iI 0) hx hb dX7_matrix_22 rfl ?_
        refine lv_istore (lv' := [(5, .int (iI 0)), (4, .int (iI ((i : Nat) : Int))), (3, .ref q1), (2, .int (iI ((n : Nat) : Int))), (0, .ref a), (1, .int (iI ((b : Nat) : Int)))]) hx hb dX7_matrix_23 hl (by decide) rfl (fun ls hl => ?_)
        have lp6 : ∀ (dlp6 : Nat) (j : Nat) (F2 : Nat → Nat → Int), n - j = dlp6 → (j ≤ n) → (mxD p v sg b i j F2 n) → ∀ (H7 : Heap) (locs : List Loc) (ls : Array Slot), va_P G.1 zCl ([(q1, zII G n (fun i => some (q1 + 1 + i)))] ++ (zRows G n n (fun i => q1 + 1 + i) F2 ++ [])) H7 → va_D (zA M0 H0) ([(q1, zII G n (fun i => some (q1 + 1 + i)))] ++ (zRows G n n (fun i => q1 + 1 + i) F2 ++ [])) → va_S (zA M0 H0) H0 H7 locs → lv_has ls 6 [(5, .int (iI ((j : Nat) : Int))), (4, .int (iI ((i : Nat) : Int))), (3, .ref q1), (2, .int (iI ((n : Nat) : Int))), (0, .ref a), (1, .int (iI ((b : Nat) : Int)))] → W pp l ee rm_m_X7_matrix ss mm args below meth cd H7 locs 17 272 Q (F0 mm 25 ls []) := by
          intro dlp6
          induction dlp6 using Nat.strongRecOn with
          | ind dlp6 ihlp6 =>
            intro j F2 hdlp6 hj hf2 H7 locs ls  hP hD hS hl
            refine lv_iload hx hb dX7_matrix_25 (lv_at hl 0 rfl) ?_
            refine lv_iload_n hx hb dX7_matrix_27 rfl (lv_at hl 3 rfl) ?_
            refine z_cge (tgt := 95) hx hb dX7_matrix_28 (by decide) (by omega) (fun c8 => ?_) (fun c8 => ?_)
            · have ej : j = n := by omega
              rw [ej] at hf2
              refine z_iinc (z := ((i + 1 : Nat) : Int)) (lv' := [(4, .int (iI ((i + 1 : Nat) : Int))), (5, .int (iI ((j : Nat) : Int))), (3, .ref q1), (2, .int (iI ((n : Nat) : Int))), (0, .ref a), (1, .int (iI ((b : Nat) : Int)))]) hx hb dX7_matrix_95 hl (k := 1) rfl (by omega) (by decide) rfl (fun ls hl => ?_)
              refine lv_goto (tgt := 16) hx hb dX7_matrix_98 (by decide) ?_
              exact W.widen (by omega) (by omega) (ihlp3 (n - (i + 1)) (by omega) (i + 1) F2 rfl (by omega) (mxD_row hf2) _ _ _  hP hD hS (lv_sub hl [0, 2, 3, 4, 5] rfl))
            · have hij := xor_lt hn2 (show i < n by omega) (show j < n by omega)
              have h1 := hsg i j (by omega) (by omega)
              have h2 := hsg j i (by omega) (by omega)
              have z1 := zmul3 hvi h1 h1 hp7
              have z2 := zmul3 hvi h2 h2 hp7
              refine lv_aload_n hx hb dX7_matrix_31 rfl (lv_at hl 2 rfl) ?_
              refine lv_iload hx hb dX7_matrix_32 (lv_at hl 1 rfl) ?_
              refine lv_iload hx hb dX7_matrix_34 (lv_at hl 0 rfl) ?_
              refine z_xor hx hb (n := i ^^^ j) dX7_matrix_36 rfl rfl rfl ?_
              refine z_aald hC (hP 0 _ rfl) (k := i ^^^ j) rfl (by omega) (q := (q1 + 1 + (i ^^^ j))) rfl dX7_matrix_37 ?_
              refine lv_iload hx hb dX7_matrix_38 (lv_at hl 0 rfl) ?_
              refine lv_aload_n hx hb dX7_matrix_40 rfl (lv_at hl 4 rfl) ?_
              refine z_get hC (k := 2) rfl in_X7 (zo hS h.1 id) (by decide) q326 (fun _ h => h) rfl dX7_matrix_41 ?_
              refine lv_aload_n hx hb dX7_matrix_44 rfl (lv_at hl 4 rfl) ?_
              refine z_get hC (k := 1) rfl in_X7 (zo hS h.1 id) (by decide) q324 (fun _ h => h) rfl dX7_matrix_45 ?_
              refine lv_iload hx hb dX7_matrix_48 (lv_at hl 1 rfl) ?_
              refine z_iald hC (zo hS h.2 id) (k := i) rfl (by omega) (y := v i) rfl dX7_matrix_50 ?_
              refine lv_iload_n hx hb dX7_matrix_51 rfl (lv_at hl 5 rfl) ?_
              refine z_zeq (tgt := 71) hx hb dX7_matrix_52 (by decide) (by omega) (fun c9 => ?_) (fun c9 => ?_)
              · refine lv_aload_n hx hb dX7_matrix_71 rfl (lv_at hl 4 rfl) ?_
                refine z_get hC (k := 0) rfl in_X7 (zo hS h.1 id) (by decide) q322 (fun _ h => h) rfl dX7_matrix_72 ?_
                refine z_getn hC (k := 3) rfl in_X5 (zo hS hg0 id) (by decide) q963 (fun _ h => h) rfl dX7_matrix_75 ?_
                refine lv_iload hx hb dX7_matrix_78 (lv_at hl 0 rfl) ?_
                refine z_aald hC (zo hS hso id) (k := j) rfl (by omega) (q := (ro j)) rfl dX7_matrix_80 ?_
                refine lv_iload hx hb dX7_matrix_81 (lv_at hl 1 rfl) ?_
                refine z_iald hC (zo hS (hro j (by omega)) id) (k := i) rfl (by omega) (y := (sg j) i) rfl dX7_matrix_83 ?_
                refine z_mul hx hb (z := (v i) * ((sg j) i)) dX7_matrix_84 rfl ?_
                refine z_go 17 272 (z_runVN (As := [.int (iI ((v i) * ((sg j) i)))]) (rest := [.int (iI ((j : Nat) : Int)), .ref (q1 + 1 + (i ^^^ j))]) hC hml hl.1 (m_X1_mod hE H7 (hO.ext0 (zS_F hS)) x la le dr p kn sm (v i * sg j i) (zo hS hx0 id) hp7 (by omega)) q355 q62 q352 q354 qs5 nd_X1_mod rfl (z_rv hC (ci := 0) rfl (zo hS hx0 id) rfl) rfl (Nat.le_of_ble_eq_true rfl) ⟨Nat.le_of_ble_eq_true rfl, Nat.le_of_ble_eq_true rfl⟩ ⟨zfit (k := 0) (z := 17) rfl rfl (by omega), zfit (k := 0) (z := 272) rfl rfl (by omega)⟩ dX7_matrix_85) ⟨zad (k := 0) rfl (by omega), zad (k := 0) rfl (by omega)⟩ hS (fun _ z => z.elim) (fun r H10 locs hp hF hS1 => ?_)
                obtain ⟨_, rfl, rfl⟩ := hp
                have hP := zpk hP hF
                have hP : va_P G.1 zCl ([(q1, zII G n (fun i => some (q1 + 1 + i)))] ++ (zRows G n n (fun i => q1 + 1 + i) F2 ++ [])) H10 := hP
                have hD : va_D (zA M0 H0) ([(q1, zII G n (fun i => some (q1 + 1 + i)))] ++ (zRows G n n (fun i => q1 + 1 + i) F2 ++ [])) := hD
                have hS := hS1
                refine z_iast hC hP hD hS (1 + (i ^^^ j)) (k := j) (zR_at (L := 1) rfl (by omega)) rfl (by omega) (ws' := [(q1, zII G n (fun i => some (q1 + 1 + i)))] ++ (zRows G n n (fun i => q1 + 1 + i) (fun jj => if jj = i ^^^ j then va_up (F2 (i ^^^ j)) j ((v i * sg j i) % p) else F2 jj) ++ [])) (zR_set (L := 1) rfl (by omega)) dX7_matrix_88 (fun H12 locs hP hD hS => ?_)
                refine z_iinc (z := ((j + 1 : Nat) : Int)) (lv' := [(5, .int (iI ((j + 1 : Nat) : Int))), (4, .int (iI ((i : Nat) : Int))), (3, .ref q1), (2, .int (iI ((n : Nat) : Int))), (0, .ref a), (1, .int (iI ((b : Nat) : Int)))]) hx hb dX7_matrix_89 hl (k := 0) rfl (by omega) (by decide) rfl (fun ls hl => ?_)
                refine lv_goto (tgt := 25) hx hb dX7_matrix_92 (by decide) ?_
                exact W.widen (by omega) (by omega) (ihlp6 (n - (j + 1)) (by omega) (j + 1) (fun jj => if jj = i ^^^ j then va_up (F2 (i ^^^ j)) j ((v i * sg j i) % p) else F2 jj) rfl (by omega) (mxD_step hf2 (by rw [if_pos (by omega)])) _ _ _  hP hD hS hl)
              · refine lv_aload_n hx hb dX7_matrix_55 rfl (lv_at hl 4 rfl) ?_
                refine z_get hC (k := 0) rfl in_X7 (zo hS h.1 id) (by decide) q322 (fun _ h => h) rfl dX7_matrix_56 ?_
                refine z_getn hC (k := 3) rfl in_X5 (zo hS hg0 id) (by decide) q963 (fun _ h => h) rfl dX7_matrix_59 ?_
                refine lv_iload hx hb dX7_matrix_62 (lv_at hl 1 rfl) ?_
                refine z_aald hC (zo hS hso id) (k := i) rfl (by omega) (q := (ro i)) rfl dX7_matrix_64 ?_
                refine lv_iload hx hb dX7_matrix_65 (lv_at hl 0 rfl) ?_
                refine z_iald hC (zo hS (hro i (by omega)) id) (k := j) rfl (by omega) (y := (sg i) j) rfl dX7_matrix_67 ?_
                refine lv_goto (tgt := 84) hx hb dX7_matrix_68 (by decide) ?_
                refine z_mul hx hb (z := (v i) * ((sg i) j)) dX7_matrix_84 rfl ?_
                refine z_go 17 272 (z_runVN (As := [.int (iI ((v i) * ((sg i) j)))]) (rest := [.int (iI ((j : Nat) : Int)), .ref (q1 + 1 + (i ^^^ j))]) hC hml hl.1 (m_X1_mod hE H7 (hO.ext0 (zS_F hS)) x la le dr p kn sm (v i * sg i j) (zo hS hx0 id) hp7 (by omega)) q355 q62 q352 q354 qs5 nd_X1_mod rfl (z_rv hC (ci := 0) rfl (zo hS hx0 id) rfl) rfl (Nat.le_of_ble_eq_true rfl) ⟨Nat.le_of_ble_eq_true rfl, Nat.le_of_ble_eq_true rfl⟩ ⟨zfit (k := 0) (z := 17) rfl rfl (by omega), zfit (k := 0) (z := 272) rfl rfl (by omega)⟩ dX7_matrix_85) ⟨zad (k := 0) rfl (by omega), zad (k := 0) rfl (by omega)⟩ hS (fun _ z => z.elim) (fun r H13 locs hp hF hS1 => ?_)
                obtain ⟨_, rfl, rfl⟩ := hp
                have hP := zpk hP hF
                have hP : va_P G.1 zCl ([(q1, zII G n (fun i => some (q1 + 1 + i)))] ++ (zRows G n n (fun i => q1 + 1 + i) F2 ++ [])) H13 := hP
                have hD : va_D (zA M0 H0) ([(q1, zII G n (fun i => some (q1 + 1 + i)))] ++ (zRows G n n (fun i => q1 + 1 + i) F2 ++ [])) := hD
                have hS := hS1
                refine z_iast hC hP hD hS (1 + (i ^^^ j)) (k := j) (zR_at (L := 1) rfl (by omega)) rfl (by omega) (ws' := [(q1, zII G n (fun i => some (q1 + 1 + i)))] ++ (zRows G n n (fun i => q1 + 1 + i) (fun jj => if jj = i ^^^ j then va_up (F2 (i ^^^ j)) j ((v i * sg i j) % p) else F2 jj) ++ [])) (zR_set (L := 1) rfl (by omega)) dX7_matrix_88 (fun H15 locs hP hD hS => ?_)
                refine z_iinc (z := ((j + 1 : Nat) : Int)) (lv' := [(5, .int (iI ((j + 1 : Nat) : Int))), (4, .int (iI ((i : Nat) : Int))), (3, .ref q1), (2, .int (iI ((n : Nat) : Int))), (0, .ref a), (1, .int (iI ((b : Nat) : Int)))]) hx hb dX7_matrix_89 hl (k := 0) rfl (by omega) (by decide) rfl (fun ls hl => ?_)
                refine lv_goto (tgt := 25) hx hb dX7_matrix_92 (by decide) ?_
                exact W.widen (by omega) (by omega) (ihlp6 (n - (j + 1)) (by omega) (j + 1) (fun jj => if jj = i ^^^ j then va_up (F2 (i ^^^ j)) j ((v i * sg i j) % p) else F2 jj) rfl (by omega) (mxD_step hf2 (by rw [if_neg (by omega)])) _ _ _  hP hD hS hl)
        exact W.widen (by omega) (by omega) (lp6 _ 0 F rfl (Nat.zero_le _) hf _ _ _  hP hD hS hl)
  exact W.widen (by omega) (by omega) (lp3 _ 0 (fun _ _ => 0) rfl (Nat.zero_le _) (mxD_0 p v sg b n) _ _ _  hP hD hS hl)

abbrev rm_m_X7_solve : Room := { frames := 3, cells := 1, slots := 16, locals := 65 }
set_option maxHeartbeats 4000000 in
theorem m_X7_solve {l : Launch} {s0 : State} {G : zG} (hE : zE l s0 G) (H0 : Heap) (hO : zO s0 H0) (x la le dr : Nat) (p : Int) (kn sm0 : Int) (a g r n q : Nat) (ro : Nat → Nat) (FA : Nat → Nat → Int) (hp : pr357 p) (hx0 : zAt G x (zOb 0 [.int (iI p), .ref la, .ref le, .ref dr, .int (iI kn), .long (lI sm0)]) H0) (ha0 : zAt G a (zOb 6 [.ref g, .ref r, .ref x]) H0) (hnn : 1 ≤ n ∧ n ≤ 16) (hF0 : ∀ i k, i < n → k < n → 0 ≤ FA i k ∧ FA i k < p) (hP0 : va_P G.1 zCl (MXW G n q ro FA) H0) (hD0 : va_D (fun z => s0.heap.size ≤ z) (MXW G n q ro FA)) : zM l s0 yX7_solve cX7_solve 12 (some (FieldType.array FieldType.int)) rm_m_X7_solve [.ref a, .ref q] H0 (fun z => ∃ e, (z, e) ∈ MXW G n q ro FA) (rr (fun y h1 => ∃ ro1 F1 ld nx, slInv p n FA F1 ld nx n ∧ va_P G.1 zCl ([(q, zII G n (fun i => some (ro1 i))), (y, zI G n ld)] ++ (zRows G n n ro1 F1 ++ [])) h1 ∧ va_D (zA (fun z => ∃ e, (z, e) ∈ MXW G n q ro FA) H0) ([(q, zII G n (fun i => some (ro1 i))), (y, zI G n ld)] ++ (zRows G n n ro1 F1 ++ [])))) := by
  refine z_met hE (by decide +kernel) (Nat.le_of_ble_eq_true rfl) ?_
  intro pp ee ss mm args below meth cd Q ls hC hml hrt hlk hnm hH hQ hS hl
  have hx := hC.x
  have hb := hC.b
  have hl : lv_has ls 12 [(0, .ref a), (1, .ref q)] := hl
  have hP : va_P G.1 zCl ([(q, zII G n (fun i => some (ro i)))] ++ (zRows G n n ro FA ++ [])) H0 := hP0
  have hD : va_D (zA (fun z => ∃ e, (z, e) ∈ MXW G n q ro FA) H0) ([(q, zII G n (fun i => some (ro i)))] ++ (zRows G n n ro FA ++ [])) := ⟨hD0.1, fun k x hk => Or.inl ⟨x.2, List.mem_of_getElem? hk⟩⟩
  have hMo : ∀ z, (fun z => ∃ e, (z, e) ∈ MXW G n q ro FA) z → s0.heap.size ≤ z := fun z ⟨e, hz⟩ => by obtain ⟨j, hj⟩ := List.mem_iff_getElem?.mp hz; exact hD0.2 j _ hj
  have hnox : ¬ ∃ e, (x, e) ∈ MXW G n q ro FA := fun ⟨e, hz⟩ => mx_no hE hP0 hx0 hz
  have hnoa : ¬ ∃ e, (a, e) ∈ MXW G n q ro FA := fun ⟨e, hz⟩ => mx_no hE hP0 ha0 hz
  have hp7 : 0 < p ∧ p ≤ 7 := by rcases hp with rfl | rfl | rfl <;> decide
  refine lv_aload_n hx hb dX7_solve_0 rfl (lv_at hl 1 rfl) ?_
  refine z_alen hC 4 (hP 0 _ rfl) rfl (y := ((n : Nat) : Int)) rfl dX7_solve_1 ?_
  refine lv_istore_n (lv' := [(2, .int (iI ((n : Nat) : Int))), (0, .ref a), (1, .ref q)]) hx hb dX7_solve_2 rfl hl (by decide) rfl (fun ls hl => ?_)
  refine lv_iload_n hx hb dX7_solve_3 rfl (lv_at hl 0 rfl) ?_
  refine z_newi hC hP hD hS (N := n) (c1 := 1) (s1 := 16) rfl (by omega) ⟨zle (z := 1) rfl (by omega), zle (z := 16) rfl (by omega)⟩ ⟨by omega, by omega⟩ (ws' := fun q1 => ([(q, zII G n (fun i => some (ro i)))] ++ (zRows G n n ro FA ++ [])) ++ [(q1, zI G n (fun _ => 0))]) (fun _ => rfl) dX7_solve_4 (fun q1 H2 hq0q1 hq1q1 hP hD hS hF => ?_)
  have hP : va_P G.1 zCl ([(q, zII G n (fun i => some (ro i))), (q1, zI G n (fun _ => 0))] ++ (zRows G n n ro FA ++ [])) H2 := zswapP hP
  have hD : va_D (zA (fun z => ∃ e, (z, e) ∈ MXW G n q ro FA) H0) ([(q, zII G n (fun i => some (ro i))), (q1, zI G n (fun _ => 0))] ++ (zRows G n n ro FA ++ [])) := zswapD hD
  refine lv_astore_n (lv' := [(3, .ref q1), (2, .int (iI ((n : Nat) : Int))), (0, .ref a), (1, .ref q)]) hx hb dX7_solve_6 rfl hl (by decide) rfl (fun ls hl => ?_)
  refine lv_iconst (v := iI 0) hx hb dX7_solve_7 rfl ?_
  refine lv_istore (lv' := [(4, .int (iI 0)), (3, .ref q1), (2, .int (iI ((n : Nat) : Int))), (0, .ref a), (1, .ref q)]) hx hb dX7_solve_8 hl (by decide) rfl (fun ls hl => ?_)
  refine lv_iconst (v := iI 0) hx hb dX7_solve_10 rfl ?_
  refine lv_istore (lv' := [(5, .int (iI 0)), (4, .int (iI 0)), (3, .ref q1), (2, .int (iI ((n : Nat) : Int))), (0, .ref a), (1, .ref q)]) hx hb dX7_solve_11 hl (by decide) rfl (fun ls hl => ?_)
  have lp3 : ∀ (dlp3 : Nat) (col : Nat) (ro1 : Nat → Nat) (F1 : Nat → Nat → Int) (ld : Nat → Int) (nx : Nat), n - col = dlp3 → (col ≤ n) → (slInv p n FA F1 ld nx col) → ∀ (H4 : Heap) (locs : List Loc) (ls : Array Slot), va_P G.1 zCl ([(q, zII G n (fun i => some (ro1 i))), (q1, zI G n ld)] ++ (zRows G n n ro1 F1 ++ [])) H4 → va_D (zA (fun z => ∃ e, (z, e) ∈ MXW G n q ro FA) H0) ([(q, zII G n (fun i => some (ro1 i))), (q1, zI G n ld)] ++ (zRows G n n ro1 F1 ++ [])) → va_S (zA (fun z => ∃ e, (z, e) ∈ MXW G n q ro FA) H0) H0 H4 locs → lv_has ls 12 [(5, .int (iI ((col : Nat) : Int))), (4, .int (iI ((nx : Nat) : Int))), (3, .ref q1), (2, .int (iI ((n : Nat) : Int))), (0, .ref a), (1, .ref q)] → W pp l ee rm_m_X7_solve ss mm args below meth cd H4 locs 1 16 Q (F0 mm 13 ls []) := by
    intro dlp3
    induction dlp3 using Nat.strongRecOn with
    | ind dlp3 ihlp3 =>
      intro col ro1 F1 ld nx hdlp3 hcol hinv H4 locs ls  hP hD hS hl
      refine lv_iload hx hb dX7_solve_13 (lv_at hl 0 rfl) ?_
      refine lv_iload_n hx hb dX7_solve_15 rfl (lv_at hl 3 rfl) ?_
      refine z_cge (tgt := 229) hx hb dX7_solve_16 (by decide) (by omega) (fun c5 => ?_) (fun c5 => ?_)
      · have ec : col = n := by omega
        rw [ec] at hinv
        refine lv_aload_n hx hb dX7_solve_229 rfl (lv_at hl 2 rfl) ?_
        exact z_aretA hC hrt hlk hQ hS ⟨zle (z := 1) rfl (by omega), zle (z := 16) rfl (by omega)⟩ ⟨_, rfl, ro1, F1, ld, nx, hinv, hP, hD⟩ dX7_solve_230
      · have hnx : nx ≤ col := by have := hinv.2.2.1; have := cnt_le ld col; omega
        refine lv_iload hx hb dX7_solve_19 (lv_at hl 1 rfl) ?_
        refine lv_istore (lv' := [(6, .int (iI ((nx : Nat) : Int))), (5, .int (iI ((col : Nat) : Int))), (4, .int (iI ((nx : Nat) : Int))), (3, .ref q1), (2, .int (iI ((n : Nat) : Int))), (0, .ref a), (1, .ref q)]) hx hb dX7_solve_21 hl (by decide) rfl (fun ls hl => ?_)
        have lp6 : ∀ (dlp6 : Nat) (at_ : Nat), n - at_ = dlp6 → (nx ≤ at_ ∧ at_ ≤ n) → (∀ i, nx ≤ i → i < at_ → F1 i col = 0) → ∀ (H7 : Heap) (locs : List Loc) (ls : Array Slot), va_P G.1 zCl ([(q, zII G n (fun i => some (ro1 i))), (q1, zI G n ld)] ++ (zRows G n n ro1 F1 ++ [])) H7 → va_D (zA (fun z => ∃ e, (z, e) ∈ MXW G n q ro FA) H0) ([(q, zII G n (fun i => some (ro1 i))), (q1, zI G n ld)] ++ (zRows G n n ro1 F1 ++ [])) → va_S (zA (fun z => ∃ e, (z, e) ∈ MXW G n q ro FA) H0) H0 H7 locs → lv_has ls 12 [(6, .int (iI ((at_ : Nat) : Int))), (5, .int (iI ((col : Nat) : Int))), (4, .int (iI ((nx : Nat) : Int))), (3, .ref q1), (2, .int (iI ((n : Nat) : Int))), (0, .ref a), (1, .ref q)] → W pp l ee rm_m_X7_solve ss mm args below meth cd H7 locs 1 16 Q (F0 mm 23 ls []) := by
          intro dlp6
          induction dlp6 using Nat.strongRecOn with
          | ind dlp6 ihlp6 =>
            intro at_ hdlp6 hat hz H7 locs ls  hP hD hS hl
            refine lv_iload hx hb dX7_solve_23 (lv_at hl 0 rfl) ?_
            refine lv_iload_n hx hb dX7_solve_25 rfl (lv_at hl 4 rfl) ?_
            refine z_cge (tgt := 45) hx hb dX7_solve_26 (by decide) (by omega) (fun c8 => ?_) (fun c8 => ?_)
            · have eat : at_ = n := by omega
              refine lv_aload_n hx hb dX7_solve_45 rfl (lv_at hl 3 rfl) ?_
              refine lv_iload hx hb dX7_solve_46 (lv_at hl 1 rfl) ?_
              refine lv_iload hx hb dX7_solve_48 (lv_at hl 0 rfl) ?_
              refine lv_iload_n hx hb dX7_solve_50 rfl (lv_at hl 4 rfl) ?_
              refine z_cge (tgt := 59) hx hb dX7_solve_51 (by decide) (by omega) (fun c9 => ?_) (fun c9 => ?_)
              · refine lv_iconst (v := iI (-1)) hx hb dX7_solve_59 rfl ?_
                refine z_iast hC hP hD hS 1 (k := col) rfl rfl (by omega) (ws' := [(q, zII G n (fun i => some (ro1 i))), (q1, zI G n (va_up ld col (-1)))] ++ (zRows G n n ro1 F1 ++ [])) rfl dX7_solve_60 (fun H10 locs hP hD hS => ?_)
                refine lv_iload hx hb dX7_solve_61 (lv_at hl 0 rfl) ?_
                refine lv_iload_n hx hb dX7_solve_63 rfl (lv_at hl 4 rfl) ?_
                refine z_cne (tgt := 70) hx hb dX7_solve_64 (by decide) (by omega) (fun c11 => ?_) (fun c11 => ?_)
                · omega
                · refine lv_goto (tgt := 223) hx hb dX7_solve_67 (by decide) ?_
                  refine z_iinc (z := ((col + 1 : Nat) : Int)) (lv' := [(5, .int (iI ((col + 1 : Nat) : Int))), (6, .int (iI ((at_ : Nat) : Int))), (4, .int (iI ((nx : Nat) : Int))), (3, .ref q1), (2, .int (iI ((n : Nat) : Int))), (0, .ref a), (1, .ref q)]) hx hb dX7_solve_223 hl (k := 1) rfl (by omega) (by decide) rfl (fun ls hl => ?_)
                  refine lv_goto (tgt := 13) hx hb dX7_solve_226 (by decide) ?_
                  exact W.widen (by omega) (by omega) (ihlp3 (n - (col + 1)) (by omega) (col + 1) ro1 F1 (va_up ld col (-1)) nx rfl (by omega) (hinv.free (fun i h1 h2 => hz i h1 (by omega)) (va_up_self _ _ _) (fun c hc => va_up_ne _ _ (by omega))) _ _ _  hP hD hS (lv_sub hl [0, 2, 3, 4, 5, 6] rfl))
              · omega
            · refine lv_aload_n hx hb dX7_solve_29 rfl (lv_at hl 6 rfl) ?_
              refine lv_iload hx hb dX7_solve_30 (lv_at hl 0 rfl) ?_
              refine z_aald hC (hP 0 _ rfl) (k := at_) rfl (by omega) (q := (ro1 at_)) rfl dX7_solve_32 ?_
              refine lv_iload hx hb dX7_solve_33 (lv_at hl 1 rfl) ?_
              refine z_iald hC (hP (2 + at_) _ (zR_at (L := 2) rfl (by omega))) (k := col) rfl (by omega) (y := (F1 at_) col) rfl dX7_solve_35 ?_
              refine z_zne (tgt := 45) hx hb dX7_solve_36 (by decide) (by have := hinv.1 at_ col (by omega) (by omega); omega) (fun c12 => ?_) (fun c12 => ?_)
              · have hFa := hinv.1 at_ col (by omega) (by omega)
                refine lv_aload_n hx hb dX7_solve_45 rfl (lv_at hl 3 rfl) ?_
                refine lv_iload hx hb dX7_solve_46 (lv_at hl 1 rfl) ?_
                refine lv_iload hx hb dX7_solve_48 (lv_at hl 0 rfl) ?_
                refine lv_iload_n hx hb dX7_solve_50 rfl (lv_at hl 4 rfl) ?_
                refine z_cge (tgt := 59) hx hb dX7_solve_51 (by decide) (by omega) (fun c13 => ?_) (fun c13 => ?_)
                · omega
                · refine lv_iload hx hb dX7_solve_54 (lv_at hl 2 rfl) ?_
                  refine lv_goto (tgt := 60) hx hb dX7_solve_56 (by decide) ?_
                  refine z_iast hC hP hD hS 1 (k := col) rfl rfl (by omega) (ws' := [(q, zII G n (fun i => some (ro1 i))), (q1, zI G n (va_up ld col ((nx : Nat) : Int)))] ++ (zRows G n n ro1 F1 ++ [])) rfl dX7_solve_60 (fun H14 locs hP hD hS => ?_)
                  refine lv_iload hx hb dX7_solve_61 (lv_at hl 0 rfl) ?_
                  refine lv_iload_n hx hb dX7_solve_63 rfl (lv_at hl 4 rfl) ?_
                  refine z_cne (tgt := 70) hx hb dX7_solve_64 (by decide) (by omega) (fun c15 => ?_) (fun c15 => ?_)
                  · refine lv_aload_n hx hb dX7_solve_70 rfl (lv_at hl 6 rfl) ?_
                    refine lv_iload hx hb dX7_solve_71 (lv_at hl 0 rfl) ?_
                    refine z_aald hC (hP 0 _ rfl) (k := at_) rfl (by omega) (q := (ro1 at_)) rfl dX7_solve_73 ?_
                    refine lv_astore (lv' := [(7, .ref (ro1 at_)), (6, .int (iI ((at_ : Nat) : Int))), (5, .int (iI ((col : Nat) : Int))), (4, .int (iI ((nx : Nat) : Int))), (3, .ref q1), (2, .int (iI ((n : Nat) : Int))), (0, .ref a), (1, .ref q)]) hx hb dX7_solve_74 hl (by decide) rfl (fun ls hl => ?_)
                    refine lv_aload_n hx hb dX7_solve_76 rfl (lv_at hl 7 rfl) ?_
                    refine lv_iload hx hb dX7_solve_77 (lv_at hl 1 rfl) ?_
                    refine lv_aload_n hx hb dX7_solve_79 rfl (lv_at hl 7 rfl) ?_
                    refine lv_iload hx hb dX7_solve_80 (lv_at hl 3 rfl) ?_
                    refine z_aald hC (hP 0 _ rfl) (k := nx) rfl (by omega) (q := (ro1 nx)) rfl dX7_solve_82 ?_
                    refine z_aastII hC hP hD hS 0 (k := at_) rfl (hP (2 + nx) _ (zR_at (L := 2) rfl (by omega))) rfl (by omega) (ws' := [(q, zII G n (va_up (fun i => some (ro1 i)) at_ (some (ro1 nx)))), (q1, zI G n (va_up ld col ((nx : Nat) : Int)))] ++ (zRows G n n ro1 F1 ++ [])) rfl dX7_solve_83 (fun H16 locs hP hD hS => ?_)
                    refine lv_aload_n hx hb dX7_solve_84 rfl (lv_at hl 7 rfl) ?_
                    refine lv_iload hx hb dX7_solve_85 (lv_at hl 3 rfl) ?_
                    refine lv_aload hx hb dX7_solve_87 (lv_at hl 0 rfl) ?_
                    refine z_aastII hC hP hD hS 0 (k := nx) rfl (hP (2 + at_) _ (zR_at (L := 2) rfl (by omega))) rfl (by omega) (ws' := [(q, zII G n (va_up (va_up (fun i => some (ro1 i)) at_ (some (ro1 nx))) nx (some (ro1 at_)))), (q1, zI G n (va_up ld col ((nx : Nat) : Int)))] ++ (zRows G n n ro1 F1 ++ [])) rfl dX7_solve_89 (fun H17 locs hP hD hS => ?_)
                    obtain ⟨ro2, F2, hro2, hF2, hP2, hD2⟩ := z_rebase (a := nx) (b := at_) (by omega) (by omega) (fun i hi => sw_up) hP hD
                    have hro : ro1 at_ = ro2 nx := by rw [hro2]; unfold swp; rw [if_pos rfl]
                    rw [hro] at hl
                    have hP : va_P G.1 zCl ([(q, zII G n (fun i => some (ro2 i))), (q1, zI G n (va_up ld col ((nx : Nat) : Int)))] ++ (zRows G n n ro2 F2 ++ [])) H17 := hP2
                    have hD : va_D (zA (fun z => ∃ e, (z, e) ∈ MXW G n q ro FA) H0) ([(q, zII G n (fun i => some (ro2 i))), (q1, zI G n (va_up ld col ((nx : Nat) : Int)))] ++ (zRows G n n ro2 F2 ++ [])) := hD2
                    have hR2 : ∀ i k, i < n → k < n → 0 ≤ F2 i k ∧ F2 i k < p := fun i k hi hk => by rw [hF2]; exact hinv.1 _ k (swp_lt (by omega) (by omega) hi) hk
                    have hn2 : F2 nx = F1 at_ := by rw [hF2]; unfold swp; rw [if_pos rfl]
                    have hRn := hR2 nx col (by omega) (by omega)
                    have hne : F2 nx col ≠ 0 := by rw [hn2]; assumption
                    have hz2 : F2 nx col % p ≠ 0 := md_nz ⟨by omega, hRn.2⟩
                    have hiv := iv_in hp hz2
                    refine lv_aload_n hx hb dX7_solve_90 rfl (lv_at hl 6 rfl) ?_
                    refine z_get hC (k := 2) rfl in_X7 (zo hS ha0 hnoa) (by decide) q326 (fun _ h => h) rfl dX7_solve_91 ?_
                    refine lv_aload hx hb dX7_solve_94 (lv_at hl 0 rfl) ?_
                    refine lv_iload hx hb dX7_solve_96 (lv_at hl 2 rfl) ?_
                    refine z_iald hC (hP (2 + nx) _ (zR_at (L := 2) rfl (by omega))) (k := col) rfl (by omega) (y := (F2 nx) col) rfl dX7_solve_98 ?_
                    refine z_go 1 16 (z_runVN (As := [.int (iI ((F2 nx) col))]) (rest := []) hC hml hl.1 (m_X1_inverseOf hE H17 (hO.ext (zS_F hS) hMo) x la le dr p kn sm0 (F2 nx col) (zo hS hx0 hnox) hp hz2 (by omega)) q544 q62 q541 q543 qs18 nd_X1_inverseOf rfl (z_rv hC (ci := 0) rfl (zo hS hx0 hnox) rfl) rfl (Nat.le_of_ble_eq_true rfl) ⟨Nat.le_of_ble_eq_true rfl, Nat.le_of_ble_eq_true rfl⟩ ⟨zfit (k := 0) (z := 1) rfl rfl (by omega), zfit (k := 0) (z := 16) rfl rfl (by omega)⟩ dX7_solve_99) ⟨zad (k := 0) rfl (by omega), zad (k := 0) rfl (by omega)⟩ hS (fun _ z => z.elim) (fun r H18 locs hp hF hS1 => ?_)
                    obtain ⟨_, rfl, rfl⟩ := hp
                    have hP := zpk hP hF
                    have hP : va_P G.1 zCl ([(q, zII G n (fun i => some (ro2 i))), (q1, zI G n (va_up ld col ((nx : Nat) : Int)))] ++ (zRows G n n ro2 F2 ++ [])) H18 := hP
                    have hD : va_D (zA (fun z => ∃ e, (z, e) ∈ MXW G n q ro FA) H0) ([(q, zII G n (fun i => some (ro2 i))), (q1, zI G n (va_up ld col ((nx : Nat) : Int)))] ++ (zRows G n n ro2 F2 ++ [])) := hD
                    have hS := hS1
                    refine lv_istore (lv' := [(8, .int (iI (ivS p (F2 nx col)))), (7, .ref (ro2 nx)), (6, .int (iI ((at_ : Nat) : Int))), (5, .int (iI ((col : Nat) : Int))), (4, .int (iI ((nx : Nat) : Int))), (3, .ref q1), (2, .int (iI ((n : Nat) : Int))), (0, .ref a), (1, .ref q)]) hx hb dX7_solve_102 hl (by decide) rfl (fun ls hl => ?_)
                    refine lv_iconst (v := iI 0) hx hb dX7_solve_104 rfl ?_
                    refine lv_istore (lv' := [(9, .int (iI 0)), (8, .int (iI (ivS p (F2 nx col)))), (7, .ref (ro2 nx)), (6, .int (iI ((at_ : Nat) : Int))), (5, .int (iI ((col : Nat) : Int))), (4, .int (iI ((nx : Nat) : Int))), (3, .ref q1), (2, .int (iI ((n : Nat) : Int))), (0, .ref a), (1, .ref q)]) hx hb dX7_solve_105 hl (by decide) rfl (fun ls hl => ?_)
                    have lp19 : ∀ (dlp19 : Nat) (k : Nat) (F3 : Nat → Nat → Int), n - k = dlp19 → (k ≤ n) → (∀ i k9, i < n → k9 < n → F3 i k9 = if i = nx ∧ k9 < k then (ivS p (F2 nx col) * F2 nx k9) % p else F2 i k9) → ∀ (H20 : Heap) (locs : List Loc) (ls : Array Slot), va_P G.1 zCl ([(q, zII G n (fun i => some (ro2 i))), (q1, zI G n (va_up ld col ((nx : Nat) : Int)))] ++ (zRows G n n ro2 F3 ++ [])) H20 → va_D (zA (fun z => ∃ e, (z, e) ∈ MXW G n q ro FA) H0) ([(q, zII G n (fun i => some (ro2 i))), (q1, zI G n (va_up ld col ((nx : Nat) : Int)))] ++ (zRows G n n ro2 F3 ++ [])) → va_S (zA (fun z => ∃ e, (z, e) ∈ MXW G n q ro FA) H0) H0 H20 locs → lv_has ls 12 [(9, .int (iI ((k : Nat) : Int))), (8, .int (iI (ivS p (F2 nx col)))), (7, .ref (ro2 nx)), (6, .int (iI ((at_ : Nat) : Int))), (5, .int (iI ((col : Nat) : Int))), (4, .int (iI ((nx : Nat) : Int))), (3, .ref q1), (2, .int (iI ((n : Nat) : Int))), (0, .ref a), (1, .ref q)] → W pp l ee rm_m_X7_solve ss mm args below meth cd H20 locs 1 16 Q (F0 mm 107 ls []) := by
                      intro dlp19
                      induction dlp19 using Nat.strongRecOn with
                      | ind dlp19 ihlp19 =>
                        intro k F3 hdlp19 hk hF3 H20 locs ls  hP hD hS hl
                        refine lv_iload hx hb dX7_solve_107 (lv_at hl 0 rfl) ?_
                        refine lv_iload_n hx hb dX7_solve_109 rfl (lv_at hl 7 rfl) ?_
                        refine z_cge (tgt := 139) hx hb dX7_solve_110 (by decide) (by omega) (fun c21 => ?_) (fun c21 => ?_)
                        · refine lv_iconst (v := iI 0) hx hb dX7_solve_139 rfl ?_
                          refine lv_istore (lv' := [(9, .int (iI 0)), (8, .int (iI (ivS p (F2 nx col)))), (7, .ref (ro2 nx)), (6, .int (iI ((at_ : Nat) : Int))), (5, .int (iI ((col : Nat) : Int))), (4, .int (iI ((nx : Nat) : Int))), (3, .ref q1), (2, .int (iI ((n : Nat) : Int))), (0, .ref a), (1, .ref q)]) hx hb dX7_solve_140 hl (by decide) rfl (fun ls hl => ?_)
                          have ek : k = n := by omega
                          have lp22 : ∀ (dlp22 : Nat) (row : Nat) (F4 : Nat → Nat → Int), n - row = dlp22 → (row ≤ n) → (∀ i k, i < n → k < n → F4 i k = if i < row then slF p F2 nx col i k else if i = nx then (ivS p (F2 nx col) * F2 nx k) % p else F2 i k) → ∀ (H23 : Heap) (locs : List Loc) (ls : Array Slot), va_P G.1 zCl ([(q, zII G n (fun i => some (ro2 i))), (q1, zI G n (va_up ld col ((nx : Nat) : Int)))] ++ (zRows G n n ro2 F4 ++ [])) H23 → va_D (zA (fun z => ∃ e, (z, e) ∈ MXW G n q ro FA) H0) ([(q, zII G n (fun i => some (ro2 i))), (q1, zI G n (va_up ld col ((nx : Nat) : Int)))] ++ (zRows G n n ro2 F4 ++ [])) → va_S (zA (fun z => ∃ e, (z, e) ∈ MXW G n q ro FA) H0) H0 H23 locs → lv_has ls 12 [(9, .int (iI ((row : Nat) : Int))), (8, .int (iI (ivS p (F2 nx col)))), (7, .ref (ro2 nx)), (6, .int (iI ((at_ : Nat) : Int))), (5, .int (iI ((col : Nat) : Int))), (4, .int (iI ((nx : Nat) : Int))), (3, .ref q1), (2, .int (iI ((n : Nat) : Int))), (0, .ref a), (1, .ref q)] → W pp l ee rm_m_X7_solve ss mm args below meth cd H23 locs 1 16 Q (F0 mm 142 ls []) := by
                            intro dlp22
                            induction dlp22 using Nat.strongRecOn with
                            | ind dlp22 ihlp22 =>
                              intro row F4 hdlp22 hrow hF4 H23 locs ls  hP hD hS hl
                              refine lv_iload hx hb dX7_solve_142 (lv_at hl 0 rfl) ?_
                              refine lv_iload_n hx hb dX7_solve_144 rfl (lv_at hl 7 rfl) ?_
                              refine z_cge (tgt := 220) hx hb dX7_solve_145 (by decide) (by omega) (fun c24 => ?_) (fun c24 => ?_)
                              · refine z_iinc (z := ((nx + 1 : Nat) : Int)) (lv' := [(4, .int (iI ((nx + 1 : Nat) : Int))), (9, .int (iI ((row : Nat) : Int))), (8, .int (iI (ivS p (F2 nx col)))), (7, .ref (ro2 nx)), (6, .int (iI ((at_ : Nat) : Int))), (5, .int (iI ((col : Nat) : Int))), (3, .ref q1), (2, .int (iI ((n : Nat) : Int))), (0, .ref a), (1, .ref q)]) hx hb dX7_solve_220 hl (k := 5) rfl (by omega) (by decide) rfl (fun ls hl => ?_)
                                refine z_iinc (z := ((col + 1 : Nat) : Int)) (lv' := [(5, .int (iI ((col + 1 : Nat) : Int))), (4, .int (iI ((nx + 1 : Nat) : Int))), (9, .int (iI ((row : Nat) : Int))), (8, .int (iI (ivS p (F2 nx col)))), (7, .ref (ro2 nx)), (6, .int (iI ((at_ : Nat) : Int))), (3, .ref q1), (2, .int (iI ((n : Nat) : Int))), (0, .ref a), (1, .ref q)]) hx hb dX7_solve_223 hl (k := 5) rfl (by omega) (by decide) rfl (fun ls hl => ?_)
                                refine lv_goto (tgt := 13) hx hb dX7_solve_226 (by decide) ?_
                                exact W.widen (by omega) (by omega) (ihlp3 (n - (col + 1)) (by omega) (col + 1) ro2 F4 (va_up ld col ((nx : Nat) : Int)) (nx + 1) rfl (by omega) (hinv.lead hp (by omega) ⟨hat.1, by omega⟩ (by rw [← hn2]; exact hne) hF2 (fun i k hi hk => by rw [hF4 i k hi hk, if_pos (by omega)]) (va_up_self _ _ _) (fun c hc => va_up_ne _ _ (by omega))) _ _ _  hP hD hS (lv_sub hl [0, 1, 6, 7, 8, 9] rfl))
                              · have hFr := hF4 row col (by omega) (by omega)
                                rw [if_neg (Nat.lt_irrefl _)] at hFr
                                refine lv_aload_n hx hb dX7_solve_148 rfl (lv_at hl 9 rfl) ?_
                                refine lv_iload hx hb dX7_solve_149 (lv_at hl 0 rfl) ?_
                                refine z_aald hC (hP 0 _ rfl) (k := row) rfl (by omega) (q := (ro2 row)) rfl dX7_solve_151 ?_
                                refine lv_iload hx hb dX7_solve_152 (lv_at hl 4 rfl) ?_
                                refine z_iald hC (hP (2 + row) _ (zR_at (L := 2) rfl (by omega))) (k := col) rfl (by omega) (y := (F4 row) col) rfl dX7_solve_154 ?_
                                refine lv_istore (lv' := [(10, .int (iI ((F4 row) col))), (9, .int (iI ((row : Nat) : Int))), (8, .int (iI (ivS p (F2 nx col)))), (7, .ref (ro2 nx)), (6, .int (iI ((at_ : Nat) : Int))), (5, .int (iI ((col : Nat) : Int))), (4, .int (iI ((nx : Nat) : Int))), (3, .ref q1), (2, .int (iI ((n : Nat) : Int))), (0, .ref a), (1, .ref q)]) hx hb dX7_solve_155 hl (by decide) rfl (fun ls hl => ?_)
                                refine lv_iconst (v := iI 0) hx hb dX7_solve_157 rfl ?_
                                refine lv_istore (lv' := [(11, .int (iI 0)), (10, .int (iI ((F4 row) col))), (9, .int (iI ((row : Nat) : Int))), (8, .int (iI (ivS p (F2 nx col)))), (7, .ref (ro2 nx)), (6, .int (iI ((at_ : Nat) : Int))), (5, .int (iI ((col : Nat) : Int))), (4, .int (iI ((nx : Nat) : Int))), (3, .ref q1), (2, .int (iI ((n : Nat) : Int))), (0, .ref a), (1, .ref q)]) hx hb dX7_solve_158 hl (by decide) rfl (fun ls hl => ?_)
                                have lp25 : ∀ (dlp25 : Nat) (k2 : Nat) (F5 : Nat → Nat → Int), n - k2 = dlp25 → (k2 ≤ n) → (∀ i k, i < n → k < n → F5 i k = if i = row ∧ k < k2 then slF p F2 nx col i k else F4 i k) → ∀ (H26 : Heap) (locs : List Loc) (ls : Array Slot), va_P G.1 zCl ([(q, zII G n (fun i => some (ro2 i))), (q1, zI G n (va_up ld col ((nx : Nat) : Int)))] ++ (zRows G n n ro2 F5 ++ [])) H26 → va_D (zA (fun z => ∃ e, (z, e) ∈ MXW G n q ro FA) H0) ([(q, zII G n (fun i => some (ro2 i))), (q1, zI G n (va_up ld col ((nx : Nat) : Int)))] ++ (zRows G n n ro2 F5 ++ [])) → va_S (zA (fun z => ∃ e, (z, e) ∈ MXW G n q ro FA) H0) H0 H26 locs → lv_has ls 12 [(11, .int (iI ((k2 : Nat) : Int))), (10, .int (iI ((F4 row) col))), (9, .int (iI ((row : Nat) : Int))), (8, .int (iI (ivS p (F2 nx col)))), (7, .ref (ro2 nx)), (6, .int (iI ((at_ : Nat) : Int))), (5, .int (iI ((col : Nat) : Int))), (4, .int (iI ((nx : Nat) : Int))), (3, .ref q1), (2, .int (iI ((n : Nat) : Int))), (0, .ref a), (1, .ref q)] → W pp l ee rm_m_X7_solve ss mm args below meth cd H26 locs 1 16 Q (F0 mm 160 ls []) := by
                                  intro dlp25
                                  induction dlp25 using Nat.strongRecOn with
                                  | ind dlp25 ihlp25 =>
                                    intro k2 F5 hdlp25 hk2 hF5 H26 locs ls  hP hD hS hl
                                    refine lv_iload hx hb dX7_solve_160 (lv_at hl 0 rfl) ?_
                                    refine lv_iload_n hx hb dX7_solve_162 rfl (lv_at hl 9 rfl) ?_
                                    refine z_cge (tgt := 214) hx hb dX7_solve_163 (by decide) (by omega) (fun c27 => ?_) (fun c27 => ?_)
                                    · refine z_iinc (z := ((row + 1 : Nat) : Int)) (lv' := [(9, .int (iI ((row + 1 : Nat) : Int))), (11, .int (iI ((k2 : Nat) : Int))), (10, .int (iI ((F4 row) col))), (8, .int (iI (ivS p (F2 nx col)))), (7, .ref (ro2 nx)), (6, .int (iI ((at_ : Nat) : Int))), (5, .int (iI ((col : Nat) : Int))), (4, .int (iI ((nx : Nat) : Int))), (3, .ref q1), (2, .int (iI ((n : Nat) : Int))), (0, .ref a), (1, .ref q)]) hx hb dX7_solve_214 hl (k := 2) rfl (by omega) (by decide) rfl (fun ls hl => ?_)
                                      refine lv_goto (tgt := 142) hx hb dX7_solve_217 (by decide) ?_
                                      exact W.widen (by omega) (by omega) (ihlp22 (n - (row + 1)) (by omega) (row + 1) F5 rfl (by omega) (fun i k hi hk => by exact slD_fin hF4 hF5 (by omega) (fun k hk => Or.inl (by omega)) i k hi hk) _ _ _  hP hD hS (lv_sub hl [0, 3, 4, 5, 6, 7, 8, 9, 10, 11] rfl))
                                    · refine lv_iload hx hb dX7_solve_166 (lv_at hl 2 rfl) ?_
                                      refine lv_iload hx hb dX7_solve_168 (lv_at hl 7 rfl) ?_
                                      refine z_ceq (tgt := 214) hx hb dX7_solve_170 (by decide) (by omega) (fun c28 => ?_) (fun c28 => ?_)
                                      · refine z_iinc (z := ((row + 1 : Nat) : Int)) (lv' := [(9, .int (iI ((row + 1 : Nat) : Int))), (11, .int (iI ((k2 : Nat) : Int))), (10, .int (iI ((F4 row) col))), (8, .int (iI (ivS p (F2 nx col)))), (7, .ref (ro2 nx)), (6, .int (iI ((at_ : Nat) : Int))), (5, .int (iI ((col : Nat) : Int))), (4, .int (iI ((nx : Nat) : Int))), (3, .ref q1), (2, .int (iI ((n : Nat) : Int))), (0, .ref a), (1, .ref q)]) hx hb dX7_solve_214 hl (k := 2) rfl (by omega) (by decide) rfl (fun ls hl => ?_)
                                        refine lv_goto (tgt := 142) hx hb dX7_solve_217 (by decide) ?_
                                        exact W.widen (by omega) (by omega) (ihlp22 (n - (row + 1)) (by omega) (row + 1) F5 rfl (by omega) (fun i k hi hk => by exact slD_fin hF4 hF5 (by omega) (fun k hk => Or.inr (by rw [hF4 row k (by omega) hk, if_neg (Nat.lt_irrefl _), if_pos (show row = nx by omega), slF, if_pos (show row = nx by omega)])) i k hi hk) _ _ _  hP hD hS (lv_sub hl [0, 3, 4, 5, 6, 7, 8, 9, 10, 11] rfl))
                                      · refine lv_iload hx hb dX7_solve_173 (lv_at hl 1 rfl) ?_
                                        refine z_zeq (tgt := 214) hx hb dX7_solve_175 (by decide) (by have := hR2 row col (by omega) (by omega); rw [hFr, if_neg (by omega)]; omega) (fun c29 => ?_) (fun c29 => ?_)
                                        · refine z_iinc (z := ((row + 1 : Nat) : Int)) (lv' := [(9, .int (iI ((row + 1 : Nat) : Int))), (11, .int (iI ((k2 : Nat) : Int))), (10, .int (iI ((F4 row) col))), (8, .int (iI (ivS p (F2 nx col)))), (7, .ref (ro2 nx)), (6, .int (iI ((at_ : Nat) : Int))), (5, .int (iI ((col : Nat) : Int))), (4, .int (iI ((nx : Nat) : Int))), (3, .ref q1), (2, .int (iI ((n : Nat) : Int))), (0, .ref a), (1, .ref q)]) hx hb dX7_solve_214 hl (k := 2) rfl (by omega) (by decide) rfl (fun ls hl => ?_)
                                          refine lv_goto (tgt := 142) hx hb dX7_solve_217 (by decide) ?_
                                          exact W.widen (by omega) (by omega) (ihlp22 (n - (row + 1)) (by omega) (row + 1) F5 rfl (by omega) (fun i k hi hk => by exact slD_fin hF4 hF5 (by omega) (fun k hk => Or.inr (by have hrx : F2 row col = 0 := (by rw [if_neg (show ¬ row = nx by omega)] at hFr; rw [← hFr]; assumption); rw [hF4 row k (by omega) hk, if_neg (Nat.lt_irrefl _), if_neg (show ¬ row = nx by omega), slF, if_neg (show ¬ row = nx by omega), if_pos hrx])) i k hi hk) _ _ _  hP hD hS (lv_sub hl [0, 3, 4, 5, 6, 7, 8, 9, 10, 11] rfl))
                                        · have hRr := hR2 row col (by omega) (by omega)
                                          have h5k := hF5 row k2 (by omega) (by omega)
                                          rw [if_neg (by omega)] at h5k
                                          have h4k := hF4 row k2 (by omega) (by omega)
                                          rw [if_neg (Nat.lt_irrefl _), if_neg (by omega)] at h4k
                                          have hRk := hR2 row k2 (by omega) (by omega)
                                          have h5n := hF5 nx k2 (by omega) (by omega)
                                          rw [if_neg (by omega)] at h5n
                                          have h4n := hF4 nx k2 (by omega) (by omega)
                                          have e4n : F4 nx k2 = (ivS p (F2 nx col) * F2 nx k2) % p := by rw [h4n]; split; (unfold slF; rw [if_pos rfl]); rw [if_pos rfl]
                                          have hmd := md_in hp (ivS p (F2 nx col) * F2 nx k2)
                                          have e5n : 0 ≤ F5 nx k2 ∧ F5 nx k2 < p := by rw [h5n, e4n]; exact hmd
                                          have hrx : F4 row col = F2 row col := by rw [hFr, if_neg (by omega)]
                                          have hrr : 0 ≤ F4 row col ∧ F4 row col < p := by rw [hrx]; exact hRr
                                          have hz3 := zmul3 hrr e5n e5n hp7
                                          refine lv_aload_n hx hb dX7_solve_178 rfl (lv_at hl 11 rfl) ?_
                                          refine lv_iload hx hb dX7_solve_179 (lv_at hl 2 rfl) ?_
                                          refine z_aald hC (hP 0 _ rfl) (k := row) rfl (by omega) (q := (ro2 row)) rfl dX7_solve_181 ?_
                                          refine lv_iload hx hb dX7_solve_182 (lv_at hl 0 rfl) ?_
                                          refine lv_aload_n hx hb dX7_solve_184 rfl (lv_at hl 10 rfl) ?_
                                          refine z_get hC (k := 2) rfl in_X7 (zo hS ha0 hnoa) (by decide) q326 (fun _ h => h) rfl dX7_solve_185 ?_
                                          refine lv_aload_n hx hb dX7_solve_188 rfl (lv_at hl 11 rfl) ?_
                                          refine lv_iload hx hb dX7_solve_189 (lv_at hl 2 rfl) ?_
                                          refine z_aald hC (hP 0 _ rfl) (k := row) rfl (by omega) (q := (ro2 row)) rfl dX7_solve_191 ?_
                                          refine lv_iload hx hb dX7_solve_192 (lv_at hl 0 rfl) ?_
                                          refine z_iald hC (hP (2 + row) _ (zR_at (L := 2) rfl (by omega))) (k := k2) rfl (by omega) (y := (F5 row) k2) rfl dX7_solve_194 ?_
                                          refine lv_iload hx hb dX7_solve_195 (lv_at hl 1 rfl) ?_
                                          refine lv_aload hx hb dX7_solve_197 (lv_at hl 4 rfl) ?_
                                          refine lv_iload hx hb dX7_solve_199 (lv_at hl 0 rfl) ?_
                                          refine z_iald hC (hP (2 + nx) _ (zR_at (L := 2) rfl (by omega))) (k := k2) rfl (by omega) (y := (F5 nx) k2) rfl dX7_solve_201 ?_
                                          refine z_mul hx hb (z := ((F4 row) col) * ((F5 nx) k2)) dX7_solve_202 rfl ?_
                                          refine z_sub hx hb (z := ((F5 row) k2) - (((F4 row) col) * ((F5 nx) k2))) dX7_solve_203 rfl ?_
                                          refine z_go 1 16 (z_runVN (As := [.int (iI (((F5 row) k2) - (((F4 row) col) * ((F5 nx) k2))))]) (rest := [.int (iI ((k2 : Nat) : Int)), .ref (ro2 row)]) hC hml hl.1 (m_X1_mod hE H26 (hO.ext (zS_F hS) hMo) x la le dr p kn sm0 (F5 row k2 - F4 row col * F5 nx k2) (zo hS hx0 hnox) hp7 (by omega)) q355 q62 q352 q354 qs5 nd_X1_mod rfl (z_rv hC (ci := 0) rfl (zo hS hx0 hnox) rfl) rfl (Nat.le_of_ble_eq_true rfl) ⟨Nat.le_of_ble_eq_true rfl, Nat.le_of_ble_eq_true rfl⟩ ⟨zfit (k := 0) (z := 1) rfl rfl (by omega), zfit (k := 0) (z := 16) rfl rfl (by omega)⟩ dX7_solve_204) ⟨zad (k := 0) rfl (by omega), zad (k := 0) rfl (by omega)⟩ hS (fun _ z => z.elim) (fun r H30 locs hp hF hS1 => ?_)
                                          obtain ⟨_, rfl, rfl⟩ := hp
                                          have hP := zpk hP hF
                                          have hP : va_P G.1 zCl ([(q, zII G n (fun i => some (ro2 i))), (q1, zI G n (va_up ld col ((nx : Nat) : Int)))] ++ (zRows G n n ro2 F5 ++ [])) H30 := hP
                                          have hD : va_D (zA (fun z => ∃ e, (z, e) ∈ MXW G n q ro FA) H0) ([(q, zII G n (fun i => some (ro2 i))), (q1, zI G n (va_up ld col ((nx : Nat) : Int)))] ++ (zRows G n n ro2 F5 ++ [])) := hD
                                          have hS := hS1
                                          refine z_iast hC hP hD hS (2 + row) (k := k2) (zR_at (L := 2) rfl (by omega)) rfl (by omega) (ws' := [(q, zII G n (fun i => some (ro2 i))), (q1, zI G n (va_up ld col ((nx : Nat) : Int)))] ++ (zRows G n n ro2 (fun jj => if jj = row then va_up (F5 row) k2 ((F5 row k2 - F4 row col * F5 nx k2) % p) else F5 jj) ++ [])) (zR_set (L := 2) rfl (by omega)) dX7_solve_207 (fun H32 locs hP hD hS => ?_)
                                          refine z_iinc (z := ((k2 + 1 : Nat) : Int)) (lv' := [(11, .int (iI ((k2 + 1 : Nat) : Int))), (10, .int (iI ((F4 row) col))), (9, .int (iI ((row : Nat) : Int))), (8, .int (iI (ivS p (F2 nx col)))), (7, .ref (ro2 nx)), (6, .int (iI ((at_ : Nat) : Int))), (5, .int (iI ((col : Nat) : Int))), (4, .int (iI ((nx : Nat) : Int))), (3, .ref q1), (2, .int (iI ((n : Nat) : Int))), (0, .ref a), (1, .ref q)]) hx hb dX7_solve_208 hl (k := 0) rfl (by omega) (by decide) rfl (fun ls hl => ?_)
                                          refine lv_goto (tgt := 160) hx hb dX7_solve_211 (by decide) ?_
                                          exact W.widen (by omega) (by omega) (ihlp25 (n - (k2 + 1)) (by omega) (k2 + 1) (fun jj => if jj = row then va_up (F5 row) k2 ((F5 row k2 - F4 row col * F5 nx k2) % p) else F5 jj) rfl (by omega) (slD_step hF5 (by rw [h5k, h5n, e4n, hrx, h4k]; unfold slF; rw [if_neg (by omega), if_neg (by rw [← hrx]; assumption)])) _ _ _  hP hD hS hl)
                                exact W.widen (by omega) (by omega) (lp25 _ 0 F4 rfl (Nat.zero_le _) (fun i k hi hk => by rw [if_neg (by omega)]) _ _ _  hP hD hS hl)
                          exact W.widen (by omega) (by omega) (lp22 _ 0 F3 rfl (Nat.zero_le _) (fun i k9 hi hk => by rw [if_neg (Nat.not_lt_zero _), hF3 i k9 hi hk]; by_cases e : i = nx; (rw [if_pos ⟨e, by omega⟩, if_pos e]); rw [if_neg (fun z => e z.1), if_neg e]) _ _ _  hP hD hS hl)
                        · have h3k := hF3 nx k (by omega) (by omega)
                          rw [if_neg (by omega)] at h3k
                          have hRk := hR2 nx k (by omega) (by omega)
                          have hb2 : -70 ≤ ivS p (F2 nx col) * F3 nx k ∧ ivS p (F2 nx col) * F3 nx k ≤ 70 := zmulb (by omega) (by rw [h3k]; exact hRk) hp7
                          refine lv_aload hx hb dX7_solve_113 (lv_at hl 2 rfl) ?_
                          refine lv_iload hx hb dX7_solve_115 (lv_at hl 0 rfl) ?_
                          refine lv_aload_n hx hb dX7_solve_117 rfl (lv_at hl 8 rfl) ?_
                          refine z_get hC (k := 2) rfl in_X7 (zo hS ha0 hnoa) (by decide) q326 (fun _ h => h) rfl dX7_solve_118 ?_
                          refine lv_iload hx hb dX7_solve_121 (lv_at hl 1 rfl) ?_
                          refine lv_aload hx hb dX7_solve_123 (lv_at hl 2 rfl) ?_
                          refine lv_iload hx hb dX7_solve_125 (lv_at hl 0 rfl) ?_
                          refine z_iald hC (hP (2 + nx) _ (zR_at (L := 2) rfl (by omega))) (k := k) rfl (by omega) (y := (F3 nx) k) rfl dX7_solve_127 ?_
                          refine z_mul hx hb (z := (ivS p (F2 nx col)) * ((F3 nx) k)) dX7_solve_128 rfl ?_
                          refine z_go 1 16 (z_runVN (As := [.int (iI ((ivS p (F2 nx col)) * ((F3 nx) k)))]) (rest := [.int (iI ((k : Nat) : Int)), .ref (ro2 nx)]) hC hml hl.1 (m_X1_mod hE H20 (hO.ext (zS_F hS) hMo) x la le dr p kn sm0 (ivS p (F2 nx col) * F3 nx k) (zo hS hx0 hnox) hp7 (by omega)) q355 q62 q352 q354 qs5 nd_X1_mod rfl (z_rv hC (ci := 0) rfl (zo hS hx0 hnox) rfl) rfl (Nat.le_of_ble_eq_true rfl) ⟨Nat.le_of_ble_eq_true rfl, Nat.le_of_ble_eq_true rfl⟩ ⟨zfit (k := 0) (z := 1) rfl rfl (by omega), zfit (k := 0) (z := 16) rfl rfl (by omega)⟩ dX7_solve_129) ⟨zad (k := 0) rfl (by omega), zad (k := 0) rfl (by omega)⟩ hS (fun _ z => z.elim) (fun r H33 locs hp hF hS1 => ?_)
                          obtain ⟨_, rfl, rfl⟩ := hp
                          have hP := zpk hP hF
                          have hP : va_P G.1 zCl ([(q, zII G n (fun i => some (ro2 i))), (q1, zI G n (va_up ld col ((nx : Nat) : Int)))] ++ (zRows G n n ro2 F3 ++ [])) H33 := hP
                          have hD : va_D (zA (fun z => ∃ e, (z, e) ∈ MXW G n q ro FA) H0) ([(q, zII G n (fun i => some (ro2 i))), (q1, zI G n (va_up ld col ((nx : Nat) : Int)))] ++ (zRows G n n ro2 F3 ++ [])) := hD
                          have hS := hS1
                          refine z_iast hC hP hD hS (2 + nx) (k := k) (zR_at (L := 2) rfl (by omega)) rfl (by omega) (ws' := [(q, zII G n (fun i => some (ro2 i))), (q1, zI G n (va_up ld col ((nx : Nat) : Int)))] ++ (zRows G n n ro2 (fun jj => if jj = nx then va_up (F3 nx) k ((ivS p (F2 nx col) * F3 nx k) % p) else F3 jj) ++ [])) (zR_set (L := 2) rfl (by omega)) dX7_solve_132 (fun H35 locs hP hD hS => ?_)
                          refine z_iinc (z := ((k + 1 : Nat) : Int)) (lv' := [(9, .int (iI ((k + 1 : Nat) : Int))), (8, .int (iI (ivS p (F2 nx col)))), (7, .ref (ro2 nx)), (6, .int (iI ((at_ : Nat) : Int))), (5, .int (iI ((col : Nat) : Int))), (4, .int (iI ((nx : Nat) : Int))), (3, .ref q1), (2, .int (iI ((n : Nat) : Int))), (0, .ref a), (1, .ref q)]) hx hb dX7_solve_133 hl (k := 0) rfl (by omega) (by decide) rfl (fun ls hl => ?_)
                          refine lv_goto (tgt := 107) hx hb dX7_solve_136 (by decide) ?_
                          exact W.widen (by omega) (by omega) (ihlp19 (n - (k + 1)) (by omega) (k + 1) (fun jj => if jj = nx then va_up (F3 nx) k ((ivS p (F2 nx col) * F3 nx k) % p) else F3 jj) rfl (by omega) (slB_step hF3 (by rw [h3k])) _ _ _  hP hD hS hl)
                    exact W.widen (by omega) (by omega) (lp19 _ 0 F2 rfl (Nat.zero_le _) (fun i k9 hi hk => by rw [if_neg (by omega)]) _ _ _  hP hD hS hl)
                  · omega
              · refine z_iinc (z := ((at_ + 1 : Nat) : Int)) (lv' := [(6, .int (iI ((at_ + 1 : Nat) : Int))), (5, .int (iI ((col : Nat) : Int))), (4, .int (iI ((nx : Nat) : Int))), (3, .ref q1), (2, .int (iI ((n : Nat) : Int))), (0, .ref a), (1, .ref q)]) hx hb dX7_solve_39 hl (k := 0) rfl (by omega) (by decide) rfl (fun ls hl => ?_)
                refine lv_goto (tgt := 23) hx hb dX7_solve_42 (by decide) ?_
                exact W.widen (by omega) (by omega) (ihlp6 (n - (at_ + 1)) (by omega) (at_ + 1) rfl (⟨by omega, by omega⟩) (fun i h1 h2 => by by_cases e : i = at_; subst e; assumption; exact hz i h1 (by omega)) _ _ _  hP hD hS hl)
        exact W.widen (by omega) (by omega) (lp6 _ nx rfl (⟨Nat.le_refl _, by omega⟩) (fun i h1 h2 => by omega) _ _ _  hP hD hS hl)
  exact W.widen (by omega) (by omega) (lp3 _ 0 ro FA (fun _ => 0) 0 rfl (Nat.zero_le _) (slInv.start hF0 (fun _ _ _ _ => rfl)) _ _ _  hP hD hS hl)

