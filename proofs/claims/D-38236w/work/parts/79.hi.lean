/-! THE MODEL: powers that end, sums of powers, columns -/
set_option maxRecDepth 100000
theorem tmV_sc {p : Int} {n : Nat} {sg : Nat → Nat → Int} {c : Int} {v v' w : Nat → Int} (h : ∀ j, j < n → v j % p = (c * v' j) % p) (k : Nat) : tmV p n sg v w k % p = (c * tmV p n sg v' w k) % p := by
  show sm n (fun i => v i * w (i ^^^ k) * sg i (i ^^^ k)) % p % p = (c * (sm n (fun i => v' i * w (i ^^^ k) * sg i (i ^^^ k)) % p)) % p
  rw [md_mod, md_mr, ← sm_mul]
  refine sm_md (fun i hi => ?_)
  rw [Int.mul_assoc, Int.mul_emod, h i hi, ← Int.mul_emod, Int.mul_assoc, Int.mul_assoc]
/-- the numbers by which the powers go into the series -/
def facV (p : Int) : Nat → Int
  | 0 => 1
  | k + 1 => (facV p k * ivS p ((k : Int) + 1)) % p
theorem facV_in {p : Int} (hp : pr357 p) : ∀ k, 0 ≤ facV p k ∧ facV p k < p
  | 0 => by rcases hp with e | e | e <;> rw [e] <;> decide
  | k + 1 => md_in hp _
theorem ptV_fac {p : Int} {n : Nat} {sg : Nat → Nat → Int} {v : Nat → Int} (hp : pr357 p) : ∀ k : Nat, (k : Int) < p → ∀ j, j < n → ptV p n sg v k j % p = (facV p k * pwV p n sg v k j) % p
  | 0, _, j, _ => by simp only [ptV, facV, pwV]; rw [Int.one_mul]
  | k + 1, hk, j, hj => by
    have ih := ptV_fac (n := n) (sg := sg) (v := v) hp k (by omega)
    have hne : (k : Int) + 1 ≠ p := by omega
    simp only [ptV, facV, pwV]
    rw [if_neg hne]
    have h1 := tmV_sc (sg := sg) (w := v) ih j
    show (ivS p ((k : Int) + 1) * tmV p n sg (ptV p n sg v k) v j) % p % p = (facV p k * ivS p ((k : Int) + 1) % p * tmV p n sg (pwV p n sg v k) v j) % p
    rw [md_mod, ← md_mr, h1, md_mr, md_ml, ← Int.mul_assoc, Int.mul_comm (ivS p ((k : Int) + 1))]
theorem suV_fac {p : Int} {n : Nat} {sg : Nat → Nat → Int} {v : Nat → Int} (hp : pr357 p) {k : Nat} (hk : (k : Int) < p) (j : Nat) (hj : j < n) : plV p (facV p k) (suV p n sg v k) (pwV p n sg v k) j = suV p n sg v (k + 1) j := by
  simp only [suV]
  show (suV p n sg v k j + facV p k * pwV p n sg v k j) % p = (suV p n sg v k j + 1 * ptV p n sg v k j) % p
  rw [Int.one_mul, Int.add_emod, ← ptV_fac hp k hk j hj, ← Int.add_emod]
theorem su1 {p : Int} {n : Nat} {sg : Nat → Nat → Int} {v : Nat → Int} (hp : pr357 p) (j : Nat) (_ : j < n) : oneV j = suV p n sg v 1 j := by
  show oneV j = (0 + 1 * oneV j) % p
  rw [Int.zero_add, Int.one_mul]
  exact (md_le hp (oneV_ok hp n j (by assumption))).symm
theorem pa1 {n : Nat} {v : Nat → Int} (h : szV v n = 1) (h0 : v 0 = 1) : paV n v = true := paV_1 h (by omega)
theorem tm_eyeR {p : Int} {n d : Nat} {sg : Nat → Nat → Int} {v : Nat → Int} (hn : n = 2 ^ d) {k r : Nat} (hk : k < n) (hr : r < n) : tmV p n sg v (eyeV k) r = mxV p v sg 1 r k := by
  have hx := xor_lt hn hr hk
  show sm n (fun i => v i * eyeV k (i ^^^ r) * sg i (i ^^^ r)) % p = _
  rw [sm_one (f := fun i => v i * eyeV k (i ^^^ r) * sg i (i ^^^ r)) hx (fun i hi hne => by
    have h1 : i ^^^ r ≠ k := fun e => hne (by rw [← e, Nat.xor_comm i r, ← Nat.xor_assoc, Nat.xor_self, Nat.zero_xor])
    simp [eyeV, h1])]
  have h2 : r ^^^ k ^^^ r = k := by rw [Nat.xor_comm r k, Nat.xor_assoc, Nat.xor_self, Nat.xor_zero]
  simp only [h2, eyeV, mxV]
  simp
theorem tm_eyeL {p : Int} {n : Nat} {sg : Nat → Nat → Int} {v : Nat → Int} {k r : Nat} (hk : k < n) : tmV p n sg (eyeV k) v r = mxV p v sg 0 r k := by
  show sm n (fun i => eyeV k i * v (i ^^^ r) * sg i (i ^^^ r)) % p = _
  rw [sm_one (f := fun i => eyeV k i * v (i ^^^ r) * sg i (i ^^^ r)) hk (fun i hi hne => by simp [eyeV, hne])]
  simp only [eyeV, mxV, if_pos]
  rw [Int.one_mul, Nat.xor_comm k r]
theorem zRpushP {G : zG} {n c qa qb qr : Nat} {ea eb : va_E} {ro : Nat → Nat} {F : Nat → Nat → Int} {f : Nat → Int} {H : Heap} (h : va_P G.1 zCl ([(qa, ea), (qb, eb), (qr, zI G n f)] ++ (zRows G n c ro F ++ [])) H) : va_P G.1 zCl ([(qa, ea)] ++ (zRows G n (c + 1) (fun jj => if jj = c then qr else ro jj) (fun jj => if jj = c then f else F jj) ++ [])) H := by
  rw [← zRows_snoc]
  exact mem_P h (fun x hx => by simp only [List.mem_append, List.mem_cons, List.not_mem_nil, or_false] at hx ⊢; rcases hx with h | h | h <;> simp [h])
theorem zRpushD {G : zG} {A : Nat → Prop} {n c qa qb qr : Nat} {ea eb : va_E} {ro : Nat → Nat} {F : Nat → Nat → Int} {f : Nat → Int} (h : va_D A ([(qa, ea), (qb, eb), (qr, zI G n f)] ++ (zRows G n c ro F ++ []))) : va_D A ([(qa, ea)] ++ (zRows G n (c + 1) (fun jj => if jj = c then qr else ro jj) (fun jj => if jj = c then f else F jj) ++ [])) := by
  rw [← zRows_snoc]
  have h1 := h.pw
  rw [List.append_nil] at h1 ⊢
  refine va_D.of_pw ?_ (fun x hx => ?_)
  · have h2 : List.Pairwise (fun x y : Nat × va_E => x.1 ≠ y.1) ((qa, ea) :: (qr, zI G n f) :: zRows G n c ro F) := h1.sublist (List.Sublist.cons_cons _ (List.Sublist.cons _ (List.Sublist.refl _)))
    exact (List.Perm.pairwise_iff (R := fun x y : Nat × va_E => x.1 ≠ y.1) (fun h => Ne.symm h) (List.Perm.cons _ (List.perm_append_singleton (qr, zI G n f) (zRows G n c ro F)).symm)).mp h2
  · simp only [List.mem_append, List.mem_cons, List.not_mem_nil, or_false] at hx
    have h3 : ∀ x : Nat × va_E, x ∈ ([(qa, ea), (qb, eb), (qr, zI G n f)] ++ (zRows G n c ro F ++ [])) → A x.1 := fun x hx => by
      obtain ⟨i, hi⟩ := List.getElem?_of_mem hx
      exact h.2 i x hi
    exact h3 x (by simp only [List.mem_append, List.mem_cons, List.not_mem_nil, or_false]; rcases hx with h | h | h <;> simp [h])
theorem NW_II {G : zG} {H h : Heap} {q n : Nat} {f g : Nat → Option Nat} {T : va_W} (e : ∀ i, i < n → f i = g i) (hP : va_P G.1 zCl ([(q, zII G n f)] ++ T) h) (hD : va_D (fun z => H.size ≤ z) ([(q, zII G n f)] ++ T)) : NW G H h ([(q, zII G n g)] ++ T) := by
  refine ⟨fun k x hk => ?_, ⟨fun i j x y hi hj => ?_, fun k x hk => ?_⟩⟩
  · cases k with
    | zero => cases hk; exact zII_congr (hP 0 _ rfl) e
    | succ k => exact hP (k + 1) x hk
  · have key : ∀ (i : Nat) (x : Nat × va_E), ([(q, zII G n g)] ++ T)[i]? = some x → ∃ x2, ([(q, zII G n f)] ++ T)[i]? = some x2 ∧ x2.1 = x.1 := fun i x h => by
      cases i with
      | zero => cases h; exact ⟨_, rfl, rfl⟩
      | succ i => exact ⟨x, h, rfl⟩
    obtain ⟨x2, hx2, ex⟩ := key i x hi
    obtain ⟨y2, hy2, ey⟩ := key j y hj
    intro hxy
    exact hD.1 i j x2 y2 hx2 hy2 (by rw [ex, ey]; exact hxy)
  · cases k with
    | zero => cases hk; exact hD.2 0 (q, zII G n f) rfl
    | succ k => exact hD.2 (k + 1) x hk
abbrev rm_m_X3_normOf : Room := { frames := 4, cells := 2, slots := 32, locals := 85 }
set_option maxHeartbeats 4000000 in
theorem m_X3_normOf {l : Launch} {s0 : State} {G : zG} (hE : zE l s0 G) (H0 : Heap) (hO : zO s0 H0) (μ : Ro → Nat) (σ : St) (th : Int) (j : Nat) (hh : HM G s0 μ σ th H0) (hj : j < St_ne σ) : zM l s0 yX3_normOf cX3_normOf 2 (some FieldType.int) rm_m_X3_normOf [.ref (μ (0, 0, 0)), .int (iI ((j : Nat) : Int))] H0 M0 (ri (fun y _ => y = tmV (St_p σ) (St_n σ (St_ea σ j)) (St_sg σ (St_ea σ j)) (St_ev σ j) (cjV (St_p σ) (St_kd σ (St_ea σ j)) (St_ev σ j)) 0)) := by
  refine z_met hE (by decide +kernel) (Nat.le_of_ble_eq_true rfl) ?_
  intro pp ee ss mm args below meth cd Q ls hC hml hrt hlk hnm hH hQ hS hl
  have hx := hC.x
  have hb := hC.b
  have hl : lv_has ls 2 [(0, .ref (μ (0, 0, 0))), (1, .int (iI ((j : Nat) : Int)))] := hl
  have hP : va_P G.1 zCl [] H0 := va_nil
  have hD : va_D (zA M0 H0) [] := va_nilD
  have hH1 := hh
  obtain ⟨hp, hna, hal, hne9, hel9, hmr9⟩ := id hh.ok
  have hp7 : 0 < St_p σ ∧ St_p σ ≤ 7 := by rcases hp with h | h | h <;> rw [h] <;> decide
  have heaj := hh.ea hj
  have hnn := hh.n heaj
  refine lv_aload_n hx hb dX3_normOf_0 rfl (lv_at hl 0 rfl) ?_
  refine lv_iload_n hx hb dX3_normOf_1 rfl (lv_at hl 1 rfl) ?_
  have hH1 : HM G s0 μ σ th H0 := hh.ext0 hE (zS_F hS)
  refine z_go 0 0 (z_runV (As := [.int (iI ((j : Nat) : Int))]) (rest := []) hC hml hl.1 (m_X3_home hE H0 (hO.ext0 (zS_F hS)) μ σ th j hH1 hj) (lw_V q1682 q1684 qs40 q67 q1685) rfl nd_X3_home rfl (z_rv hC (ci := 2) rfl hH1.2.2.1.1 rfl) rfl (Nat.le_of_ble_eq_true rfl) ⟨Nat.le_of_ble_eq_true rfl, Nat.le_of_ble_eq_true rfl⟩ ⟨zfit (k := 0) (z := 2) rfl rfl (by omega), zfit (k := 0) (z := 32) rfl rfl (by omega)⟩ dX3_normOf_2) ⟨zad (k := 0) rfl (by omega), zad (k := 0) rfl (by omega)⟩ hS (fun _ z => z.elim) (fun r H1 locs hp hF hS1 => ?_)
  obtain ⟨_, rfl, rfl⟩ := hp
  have hP := zpk hP hF
  have hP : va_P G.1 zCl ([]) H1 := hP
  have hD : va_D (zA M0 H0) ([]) := hD
  have hS := hS1
  refine lv_aload_n hx hb dX3_normOf_5 rfl (lv_at hl 0 rfl) ?_
  refine lv_iload_n hx hb dX3_normOf_6 rfl (lv_at hl 1 rfl) ?_
  have hH1 : HM G s0 μ σ th H1 := hh.ext0 hE (zS_F hS)
  refine z_go 0 0 (z_runV (As := [.int (iI ((j : Nat) : Int))]) (rest := [.ref (μ (6, St_ea σ j, 0))]) hC hml hl.1 (m_X3_row hE H1 (hO.ext0 (zS_F hS)) μ σ th j hH1 hj) (lw_V q1654 q1656 qs36 q67 q1657) rfl nd_X3_row rfl (z_rv hC (ci := 2) rfl hH1.2.2.1.1 rfl) rfl (Nat.le_of_ble_eq_true rfl) ⟨Nat.le_of_ble_eq_true rfl, Nat.le_of_ble_eq_true rfl⟩ ⟨zfit (k := 0) (z := 2) rfl rfl (by omega), zfit (k := 0) (z := 32) rfl rfl (by omega)⟩ dX3_normOf_7) ⟨zad (k := 0) rfl (by omega), zad (k := 0) rfl (by omega)⟩ hS (fun _ z => z.elim) (fun r H2 locs hp hF hS1 => ?_)
  obtain ⟨_, rfl, rfl⟩ := hp
  have hP := zpk hP hF
  have hP : va_P G.1 zCl ([]) H2 := hP
  have hD : va_D (zA M0 H0) ([]) := hD
  have hS := hS1
  have hH1 : HM G s0 μ σ th H2 := hh.ext0 hE (zS_F hS)
  have hRj := (hH1.el (j := j) (by omega)).2
  have hVj := hH1.row (j := j) (by omega)
  refine lv_aload_n hx hb dX3_normOf_10 rfl (lv_at hl 0 rfl) ?_
  refine lv_iload_n hx hb dX3_normOf_11 rfl (lv_at hl 1 rfl) ?_
  have hH1 : HM G s0 μ σ th H2 := hh.ext0 hE (zS_F hS)
  refine z_go 0 0 (z_runV (As := [.int (iI ((j : Nat) : Int))]) (rest := [.ref (μ (14, j, 0)), .ref (μ (6, St_ea σ j, 0))]) hC hml hl.1 (m_X3_home hE H2 (hO.ext0 (zS_F hS)) μ σ th j hH1 hj) (lw_V q1682 q1684 qs40 q67 q1685) rfl nd_X3_home rfl (z_rv hC (ci := 2) rfl hH1.2.2.1.1 rfl) rfl (Nat.le_of_ble_eq_true rfl) ⟨Nat.le_of_ble_eq_true rfl, Nat.le_of_ble_eq_true rfl⟩ ⟨zfit (k := 0) (z := 2) rfl rfl (by omega), zfit (k := 0) (z := 32) rfl rfl (by omega)⟩ dX3_normOf_12) ⟨zad (k := 0) rfl (by omega), zad (k := 0) rfl (by omega)⟩ hS (fun _ z => z.elim) (fun r H3 locs hp hF hS1 => ?_)
  obtain ⟨_, rfl, rfl⟩ := hp
  have hP := zpk hP hF
  have hP : va_P G.1 zCl ([]) H3 := hP
  have hD : va_D (zA M0 H0) ([]) := hD
  have hS := hS1
  refine lv_aload_n hx hb dX3_normOf_15 rfl (lv_at hl 0 rfl) ?_
  refine lv_iload_n hx hb dX3_normOf_16 rfl (lv_at hl 1 rfl) ?_
  have hH1 : HM G s0 μ σ th H3 := hh.ext0 hE (zS_F hS)
  refine z_go 0 0 (z_runV (As := [.int (iI ((j : Nat) : Int))]) (rest := [.ref (μ (6, St_ea σ j, 0)), .ref (μ (14, j, 0)), .ref (μ (6, St_ea σ j, 0))]) hC hml hl.1 (m_X3_row hE H3 (hO.ext0 (zS_F hS)) μ σ th j hH1 hj) (lw_V q1654 q1656 qs36 q67 q1657) rfl nd_X3_row rfl (z_rv hC (ci := 2) rfl hH1.2.2.1.1 rfl) rfl (Nat.le_of_ble_eq_true rfl) ⟨Nat.le_of_ble_eq_true rfl, Nat.le_of_ble_eq_true rfl⟩ ⟨zfit (k := 0) (z := 2) rfl rfl (by omega), zfit (k := 0) (z := 32) rfl rfl (by omega)⟩ dX3_normOf_17) ⟨zad (k := 0) rfl (by omega), zad (k := 0) rfl (by omega)⟩ hS (fun _ z => z.elim) (fun r H4 locs hp hF hS1 => ?_)
  obtain ⟨_, rfl, rfl⟩ := hp
  have hP := zpk hP hF
  have hP : va_P G.1 zCl ([]) H4 := hP
  have hD : va_D (zA M0 H0) ([]) := hD
  have hS := hS1
  have hH1 : HM G s0 μ σ th H4 := hh.ext0 hE (zS_F hS)
  have hRj := (hH1.el (j := j) (by omega)).2
  have hVj := hH1.row (j := j) (by omega)
  have hH1 : HM G s0 μ σ th H4 := hh.ext0 hE (zS_F hS)
  have hsz9 : H0.size ≤ H4.size := hS.1
  have hUSt_eaσj := hH1.al (k := St_ea σ j) heaj
  refine z_go 1 16 (z_runV (As := [.ref (μ (14, j, 0))]) (rest := [.ref (μ (14, j, 0)), .ref (μ (6, St_ea σ j, 0))]) hC hml hl.1 (m_X6_conjugated hE H4 (hO.ext0 (zS_F hS)) μ σ th (St_ea σ j) (μ (14, j, 0)) (St_ev σ j)  hH1 heaj hRj hVj ) (lw_V q1702 q1703 q1704 q82 q1705) rfl nd_X6_conjugated rfl (z_rv hC (ci := 5) rfl hUSt_eaσj.1 rfl) rfl (Nat.le_of_ble_eq_true rfl) ⟨Nat.le_of_ble_eq_true rfl, Nat.le_of_ble_eq_true rfl⟩ ⟨zfit (k := 1) (z := 2) rfl rfl (by omega), zfit (k := 16) (z := 32) rfl rfl (by omega)⟩ dX3_normOf_20) ⟨zad (k := 1) rfl (by omega), zad (k := 16) rfl (by omega)⟩ hS (fun _ z => z.elim) (fun r H6 locs hp hF hS1 => ?_)
  obtain ⟨qr5, rfl, hN⟩ := hp
  obtain ⟨hP, hD⟩ := zjn hP hD hS.1 hF hN
  have hP : va_P G.1 zCl ([(qr5, zI G (St_n σ (St_ea σ j)) (cjV (St_p σ) (St_kd σ (St_ea σ j)) (St_ev σ j)))]) H6 := hP
  have hD : va_D (zA M0 H0) ([(qr5, zI G (St_n σ (St_ea σ j)) (cjV (St_p σ) (St_kd σ (St_ea σ j)) (St_ev σ j)))]) := hD
  have hS := hS1
  have hH1 : HM G s0 μ σ th H6 := hh.ext0 hE (zS_F hS)
  have hRj := (hH1.el (j := j) (by omega)).2
  have hVj := hH1.row (j := j) (by omega)
  have hH1 : HM G s0 μ σ th H6 := hh.ext0 hE (zS_F hS)
  have hsz9 : H0.size ≤ H6.size := hS.1
  have hUSt_eaσj := hH1.al (k := St_ea σ j) heaj
  refine z_go 2 32 (z_runV (As := [.ref (μ (14, j, 0)), .ref qr5]) (rest := []) hC hml hl.1 (m_X6_times hE H6 (hO.ext0 (zS_F hS)) μ σ th (St_ea σ j) (μ (14, j, 0)) (St_ev σ j) qr5 (cjV (St_p σ) (St_kd σ (St_ea σ j)) (St_ev σ j))  hH1 heaj hRj hVj (hP 0 _ rfl) (cjV_ok hp _ _ _) ) (lw_V q1686 q1687 q1688 q82 q1689) rfl nd_X6_times rfl (z_rv hC (ci := 5) rfl hUSt_eaσj.1 rfl) rfl (Nat.le_of_ble_eq_true rfl) ⟨Nat.le_of_ble_eq_true rfl, Nat.le_of_ble_eq_true rfl⟩ ⟨zfit (k := 1) (z := 2) rfl rfl (by omega), zfit (k := 16) (z := 32) rfl rfl (by omega)⟩ dX3_normOf_23) ⟨zad (k := 1) rfl (by omega), zad (k := 16) rfl (by omega)⟩ hS (fun _ z => z.elim) (fun r H8 locs hp hF hS1 => ?_)
  obtain ⟨qr7, rfl, hN⟩ := hp
  obtain ⟨hP, hD⟩ := zjn hP hD hS.1 hF hN
  have hP : va_P G.1 zCl ([(qr5, zI G (St_n σ (St_ea σ j)) (cjV (St_p σ) (St_kd σ (St_ea σ j)) (St_ev σ j))), (qr7, zI G (St_n σ (St_ea σ j)) (tmV (St_p σ) (St_n σ (St_ea σ j)) (St_sg σ (St_ea σ j)) (St_ev σ j) (cjV (St_p σ) (St_kd σ (St_ea σ j)) (St_ev σ j))))]) H8 := hP
  have hD : va_D (zA M0 H0) ([(qr5, zI G (St_n σ (St_ea σ j)) (cjV (St_p σ) (St_kd σ (St_ea σ j)) (St_ev σ j))), (qr7, zI G (St_n σ (St_ea σ j)) (tmV (St_p σ) (St_n σ (St_ea σ j)) (St_sg σ (St_ea σ j)) (St_ev σ j) (cjV (St_p σ) (St_kd σ (St_ea σ j)) (St_ev σ j))))]) := hD
  have hS := hS1
  refine lv_iconst (v := iI 0) hx hb dX3_normOf_26 rfl ?_
  refine z_iald hC (hP 1 _ rfl) (k := 0) rfl (by omega) (y := (tmV (St_p σ) (St_n σ (St_ea σ j)) (St_sg σ (St_ea σ j)) (St_ev σ j) (cjV (St_p σ) (St_kd σ (St_ea σ j)) (St_ev σ j))) 0) rfl dX3_normOf_27 ?_
  exact z_iret hC hrt hlk hQ hS ⟨zle (z := 2) rfl (by omega), zle (z := 32) rfl (by omega)⟩ ⟨_, rfl, rfl⟩ dX3_normOf_28

abbrev rm_m_X3_nilOf : Room := { frames := 4, cells := 70, slots := 1100, locals := 85 }
set_option maxHeartbeats 4000000 in
theorem m_X3_nilOf {l : Launch} {s0 : State} {G : zG} (hE : zE l s0 G) (H0 : Heap) (hO : zO s0 H0) (μ : Ro → Nat) (σ : St) (th : Int) (j : Nat) (hh : HM G s0 μ σ th H0) (hj : j < St_ne σ) : zM l s0 yX3_nilOf cX3_nilOf 4 (some FieldType.int) rm_m_X3_nilOf [.ref (μ (0, 0, 0)), .int (iI ((j : Nat) : Int))] H0 M0 (ri (fun y _ => y = fst (fpP (St_p σ) (St_n σ (St_ea σ j)) (St_sg σ (St_ea σ j)) (St_ev σ j) 0) (St_p σ).toNat 1)) := by
  refine z_met hE (by decide +kernel) (Nat.le_of_ble_eq_true rfl) ?_
  intro pp ee ss mm args below meth cd Q ls hC hml hrt hlk hnm hH hQ hS hl
  have hx := hC.x
  have hb := hC.b
  have hl : lv_has ls 4 [(0, .ref (μ (0, 0, 0))), (1, .int (iI ((j : Nat) : Int)))] := hl
  have hP : va_P G.1 zCl [] H0 := va_nil
  have hD : va_D (zA M0 H0) [] := va_nilD
  have hH1 := hh
  obtain ⟨hp, hna, hal, hne9, hel9, hmr9⟩ := id hh.ok
  have hp7 : 0 < St_p σ ∧ St_p σ ≤ 7 := by rcases hp with h | h | h <;> rw [h] <;> decide
  have heaj := hh.ea hj
  have hnn := hh.n heaj
  obtain ⟨t, ht⟩ : ∃ t : Nat, t = (St_p σ).toNat := ⟨_, rfl⟩
  have ht6 : t ≤ 60 := by omega
  refine lv_aload_n hx hb dX3_nilOf_0 rfl (lv_at hl 0 rfl) ?_
  refine lv_iload_n hx hb dX3_nilOf_1 rfl (lv_at hl 1 rfl) ?_
  have hH1 : HM G s0 μ σ th H0 := hh.ext0 hE (zS_F hS)
  refine z_go 0 0 (z_runV (As := [.int (iI ((j : Nat) : Int))]) (rest := []) hC hml hl.1 (m_X3_home hE H0 (hO.ext0 (zS_F hS)) μ σ th j hH1 hj) (lw_V q1682 q1684 qs40 q67 q1685) rfl nd_X3_home rfl (z_rv hC (ci := 2) rfl hH1.2.2.1.1 rfl) rfl (Nat.le_of_ble_eq_true rfl) ⟨Nat.le_of_ble_eq_true rfl, Nat.le_of_ble_eq_true rfl⟩ ⟨zfit (k := 0) (z := 70) rfl rfl (by omega), zfit (k := 0) (z := 1100) rfl rfl (by omega)⟩ dX3_nilOf_2) ⟨zad (k := 0) rfl (by omega), zad (k := 0) rfl (by omega)⟩ hS (fun _ z => z.elim) (fun r H1 locs hp hF hS1 => ?_)
  obtain ⟨_, rfl, rfl⟩ := hp
  have hP := zpk hP hF
  have hP : va_P G.1 zCl ([]) H1 := hP
  have hD : va_D (zA M0 H0) ([]) := hD
  have hS := hS1
  have hH1 : HM G s0 μ σ th H1 := hh.ext0 hE (zS_F hS)
  have hsz9 : H0.size ≤ H1.size := hS.1
  have hUSt_eaσj := hH1.al (k := St_ea σ j) heaj
  refine z_go 1 16 (z_runV (As := []) (rest := []) hC hml hl.1 (m_X6_one hE H1 (hO.ext0 (zS_F hS)) μ σ th (St_ea σ j)  hH1 heaj ) (lw_V q1738 q1715 q1716 q82 q1717) rfl nd_X6_one rfl (z_rv hC (ci := 5) rfl hUSt_eaσj.1 rfl) rfl (Nat.le_of_ble_eq_true rfl) ⟨Nat.le_of_ble_eq_true rfl, Nat.le_of_ble_eq_true rfl⟩ ⟨zfit (k := 1) (z := 70) rfl rfl (by omega), zfit (k := 16) (z := 1100) rfl rfl (by omega)⟩ dX3_nilOf_5) ⟨zad (k := 1) rfl (by omega), zad (k := 16) rfl (by omega)⟩ hS (fun _ z => z.elim) (fun r H3 locs hp hF hS1 => ?_)
  obtain ⟨qr2, rfl, hN⟩ := hp
  obtain ⟨hP, hD⟩ := zjn hP hD hS.1 hF hN
  have hP : va_P G.1 zCl ([(qr2, zI G (St_n σ (St_ea σ j)) oneV)]) H3 := hP
  have hD : va_D (zA M0 H0) ([(qr2, zI G (St_n σ (St_ea σ j)) oneV)]) := hD
  have hS := hS1
  refine lv_astore_n (lv' := [(2, .ref qr2), (0, .ref (μ (0, 0, 0))), (1, .int (iI ((j : Nat) : Int)))]) hx hb dX3_nilOf_8 rfl hl (by decide) rfl (fun ls hl => ?_)
  refine lv_iconst (v := iI 1) hx hb dX3_nilOf_9 rfl ?_
  refine lv_istore_n (lv' := [(3, .int (iI 1)), (2, .ref qr2), (0, .ref (μ (0, 0, 0))), (1, .int (iI ((j : Nat) : Int)))]) hx hb dX3_nilOf_10 rfl hl (by decide) rfl (fun ls hl => ?_)
  have lp4 : ∀ (dlp4 : Nat) (k : Nat) (q9 : Nat), t + 1 - k = dlp4 → (1 ≤ k ∧ k ≤ t + 1) → (fst (fpP (St_p σ) (St_n σ (St_ea σ j)) (St_sg σ (St_ea σ j)) (St_ev σ j) 0) (t + 1 - k) k = fst (fpP (St_p σ) (St_n σ (St_ea σ j)) (St_sg σ (St_ea σ j)) (St_ev σ j) 0) (St_p σ).toNat 1) → ∀ (H5 : Heap) (locs : List Loc) (ls : Array Slot), va_P G.1 zCl ([(q9, zI G (St_n σ (St_ea σ j)) (pwV (St_p σ) (St_n σ (St_ea σ j)) (St_sg σ (St_ea σ j)) (St_ev σ j) (k - 1)))]) H5 → va_D (zA M0 H0) ([(q9, zI G (St_n σ (St_ea σ j)) (pwV (St_p σ) (St_n σ (St_ea σ j)) (St_sg σ (St_ea σ j)) (St_ev σ j) (k - 1)))]) → va_S (zA M0 H0) H0 H5 locs → lv_has ls 4 [(3, .int (iI ((k : Nat) : Int))), (2, .ref q9), (0, .ref (μ (0, 0, 0))), (1, .int (iI ((j : Nat) : Int)))] → W pp l ee rm_m_X3_nilOf ss mm args below meth cd H5 locs (1 + k - 1) (16 + 16 * (k - 1)) Q (F0 mm 11 ls []) := by
    intro dlp4
    induction dlp4 using Nat.strongRecOn with
    | ind dlp4 ihlp4 =>
      intro k q9 hdlp4 hk hf H5 locs ls  hP hD hS hl
      have hH1 : HM G s0 μ σ th H5 := hh.ext0 hE (zS_F hS)
      have hxx := hH1.2.2.1.1
      refine lv_iload_n hx hb dX3_nilOf_11 rfl (lv_at hl 0 rfl) ?_
      refine lv_aload_n hx hb dX3_nilOf_12 rfl (lv_at hl 2 rfl) ?_
      refine z_get hC (k := 1) rfl in_X3 hxx (by decide) q1496 (fun _ h => h) rfl dX3_nilOf_13 ?_
      refine z_cgt (tgt := 49) hx hb dX3_nilOf_16 (by decide) (by omega) (fun c6 => ?_) (fun c6 => ?_)
      · have ef : t + 1 - k = 0 := by omega
        refine lv_iconst (v := iI (-1)) hx hb dX3_nilOf_49 rfl ?_
        exact z_iret hC hrt hlk hQ hS ⟨zle (z := 70) rfl (by omega), zle (z := 1100) rfl (by omega)⟩ ⟨_, rfl, by rw [← hf, ef]; rfl⟩ dX3_nilOf_50
      · refine lv_aload_n hx hb dX3_nilOf_19 rfl (lv_at hl 2 rfl) ?_
        refine lv_iload_n hx hb dX3_nilOf_20 rfl (lv_at hl 3 rfl) ?_
        have hH1 : HM G s0 μ σ th H5 := hh.ext0 hE (zS_F hS)
        refine z_go (1 + k - 1) (16 + 16 * (k - 1)) (z_runV (As := [.int (iI ((j : Nat) : Int))]) (rest := []) hC hml hl.1 (m_X3_home hE H5 (hO.ext0 (zS_F hS)) μ σ th j hH1 hj) (lw_V q1682 q1684 qs40 q67 q1685) rfl nd_X3_home rfl (z_rv hC (ci := 2) rfl hH1.2.2.1.1 rfl) rfl (Nat.le_of_ble_eq_true rfl) ⟨Nat.le_of_ble_eq_true rfl, Nat.le_of_ble_eq_true rfl⟩ ⟨zfit (k := 0) (z := 70) rfl rfl (by omega), zfit (k := 0) (z := 1100) rfl rfl (by omega)⟩ dX3_nilOf_21) ⟨zad (k := 0) rfl (by omega), zad (k := 0) rfl (by omega)⟩ hS (fun _ z => z.elim) (fun r H7 locs hp hF hS1 => ?_)
        obtain ⟨_, rfl, rfl⟩ := hp
        have hP := zpk hP hF
        have hP : va_P G.1 zCl ([(q9, zI G (St_n σ (St_ea σ j)) (pwV (St_p σ) (St_n σ (St_ea σ j)) (St_sg σ (St_ea σ j)) (St_ev σ j) (k - 1)))]) H7 := hP
        have hD : va_D (zA M0 H0) ([(q9, zI G (St_n σ (St_ea σ j)) (pwV (St_p σ) (St_n σ (St_ea σ j)) (St_sg σ (St_ea σ j)) (St_ev σ j) (k - 1)))]) := hD
        have hS := hS1
        refine lv_aload_n hx hb dX3_nilOf_24 rfl (lv_at hl 1 rfl) ?_
        refine lv_aload_n hx hb dX3_nilOf_25 rfl (lv_at hl 2 rfl) ?_
        refine lv_iload_n hx hb dX3_nilOf_26 rfl (lv_at hl 3 rfl) ?_
        have hH1 : HM G s0 μ σ th H7 := hh.ext0 hE (zS_F hS)
        refine z_go (1 + k - 1) (16 + 16 * (k - 1)) (z_runV (As := [.int (iI ((j : Nat) : Int))]) (rest := [.ref q9, .ref (μ (6, St_ea σ j, 0))]) hC hml hl.1 (m_X3_row hE H7 (hO.ext0 (zS_F hS)) μ σ th j hH1 hj) (lw_V q1654 q1656 qs36 q67 q1657) rfl nd_X3_row rfl (z_rv hC (ci := 2) rfl hH1.2.2.1.1 rfl) rfl (Nat.le_of_ble_eq_true rfl) ⟨Nat.le_of_ble_eq_true rfl, Nat.le_of_ble_eq_true rfl⟩ ⟨zfit (k := 0) (z := 70) rfl rfl (by omega), zfit (k := 0) (z := 1100) rfl rfl (by omega)⟩ dX3_nilOf_27) ⟨zad (k := 0) rfl (by omega), zad (k := 0) rfl (by omega)⟩ hS (fun _ z => z.elim) (fun r H8 locs hp hF hS1 => ?_)
        obtain ⟨_, rfl, rfl⟩ := hp
        have hP := zpk hP hF
        have hP : va_P G.1 zCl ([(q9, zI G (St_n σ (St_ea σ j)) (pwV (St_p σ) (St_n σ (St_ea σ j)) (St_sg σ (St_ea σ j)) (St_ev σ j) (k - 1)))]) H8 := hP
        have hD : va_D (zA M0 H0) ([(q9, zI G (St_n σ (St_ea σ j)) (pwV (St_p σ) (St_n σ (St_ea σ j)) (St_sg σ (St_ea σ j)) (St_ev σ j) (k - 1)))]) := hD
        have hS := hS1
        have hH1 : HM G s0 μ σ th H8 := hh.ext0 hE (zS_F hS)
        have hRj := (hH1.el (j := j) (by omega)).2
        have hVj := hH1.row (j := j) (by omega)
        have hH1 : HM G s0 μ σ th H8 := hh.ext0 hE (zS_F hS)
        have hsz9 : H0.size ≤ H8.size := hS.1
        have hUSt_eaσj := hH1.al (k := St_ea σ j) heaj
        refine z_go ((1 + k - 1) + 1) ((16 + 16 * (k - 1)) + 16) (z_runV (As := [.ref q9, .ref (μ (14, j, 0))]) (rest := []) hC hml hl.1 (m_X6_times hE H8 (hO.ext0 (zS_F hS)) μ σ th (St_ea σ j) q9 (pwV (St_p σ) (St_n σ (St_ea σ j)) (St_sg σ (St_ea σ j)) (St_ev σ j) (k - 1)) (μ (14, j, 0)) (St_ev σ j)  hH1 heaj (hP 0 _ rfl) (pwV_ok hp _ _ _ _) hRj hVj ) (lw_V q1686 q1687 q1688 q82 q1689) rfl nd_X6_times rfl (z_rv hC (ci := 5) rfl hUSt_eaσj.1 rfl) rfl (Nat.le_of_ble_eq_true rfl) ⟨Nat.le_of_ble_eq_true rfl, Nat.le_of_ble_eq_true rfl⟩ ⟨zfit (k := 1) (z := 70) rfl rfl (by omega), zfit (k := 16) (z := 1100) rfl rfl (by omega)⟩ dX3_nilOf_30) ⟨zad (k := 1) rfl (by omega), zad (k := 16) rfl (by omega)⟩ hS (fun _ z => z.elim) (fun r H10 locs hp hF hS1 => ?_)
        obtain ⟨qr9, rfl, hN⟩ := hp
        obtain ⟨hP, hD⟩ := zjn hP hD hS.1 hF hN
        have hP : va_P G.1 zCl ([(q9, zI G (St_n σ (St_ea σ j)) (pwV (St_p σ) (St_n σ (St_ea σ j)) (St_sg σ (St_ea σ j)) (St_ev σ j) (k - 1))), (qr9, zI G (St_n σ (St_ea σ j)) (tmV (St_p σ) (St_n σ (St_ea σ j)) (St_sg σ (St_ea σ j)) (pwV (St_p σ) (St_n σ (St_ea σ j)) (St_sg σ (St_ea σ j)) (St_ev σ j) (k - 1)) (St_ev σ j)))]) H10 := hP
        have hD : va_D (zA M0 H0) ([(q9, zI G (St_n σ (St_ea σ j)) (pwV (St_p σ) (St_n σ (St_ea σ j)) (St_sg σ (St_ea σ j)) (St_ev σ j) (k - 1))), (qr9, zI G (St_n σ (St_ea σ j)) (tmV (St_p σ) (St_n σ (St_ea σ j)) (St_sg σ (St_ea σ j)) (pwV (St_p σ) (St_n σ (St_ea σ j)) (St_sg σ (St_ea σ j)) (St_ev σ j) (k - 1)) (St_ev σ j)))]) := hD
        have hS := hS1
        have ek : k - 1 + 1 = k := by omega
        have hP : va_P G.1 zCl ([(q9, zI G (St_n σ (St_ea σ j)) (pwV (St_p σ) (St_n σ (St_ea σ j)) (St_sg σ (St_ea σ j)) (St_ev σ j) (k - 1))), (qr9, zI G (St_n σ (St_ea σ j)) (pwV (St_p σ) (St_n σ (St_ea σ j)) (St_sg σ (St_ea σ j)) (St_ev σ j) (k)))]) H10 := zcI hP 1 rfl (fun j9 _ => by rw [← ek]; rfl)
        have hD : va_D (zA M0 H0) ([(q9, zI G (St_n σ (St_ea σ j)) (pwV (St_p σ) (St_n σ (St_ea σ j)) (St_sg σ (St_ea σ j)) (St_ev σ j) (k - 1))), (qr9, zI G (St_n σ (St_ea σ j)) (pwV (St_p σ) (St_n σ (St_ea σ j)) (St_sg σ (St_ea σ j)) (St_ev σ j) (k)))]) := hD.set (p := 1) rfl
        have hpk := pwV_ok hp (St_n σ (St_ea σ j)) (St_sg σ (St_ea σ j)) (St_ev σ j) k
        have hpk0 := hpk 0 (by omega)
        have hszk := szV_le (pwV (St_p σ) (St_n σ (St_ea σ j)) (St_sg σ (St_ea σ j)) (St_ev σ j) (k)) (St_n σ (St_ea σ j))
        refine lv_astore_n (lv' := [(2, .ref qr9), (3, .int (iI ((k : Nat) : Int))), (0, .ref (μ (0, 0, 0))), (1, .int (iI ((j : Nat) : Int)))]) hx hb dX3_nilOf_33 rfl hl (by decide) rfl (fun ls hl => ?_)
        refine lv_aload_n hx hb dX3_nilOf_34 rfl (lv_at hl 0 rfl) ?_
        refine z_go ((1 + k - 1) + 1) ((16 + 16 * (k - 1)) + 16) (z_runS (As := [.ref qr9]) (rest := []) hC hml hl.1 (m_X3_size hE H10 (hO.ext0 (zS_F hS)) qr9 (St_n σ (St_ea σ j)) (pwV (St_p σ) (St_n σ (St_ea σ j)) (St_sg σ (St_ea σ j)) (St_ev σ j) (k)) (hP 1 _ rfl) (fun j9 hj9 => by have := hpk j9 hj9; omega) hnn) (lw_S q1675 q1676 q67 q1677) nd_X3_size rfl rfl (Nat.le_of_ble_eq_true rfl) ⟨Nat.le_of_ble_eq_true rfl, Nat.le_of_ble_eq_true rfl⟩ ⟨zfit (k := 0) (z := 70) rfl rfl (by omega), zfit (k := 0) (z := 1100) rfl rfl (by omega)⟩ dX3_nilOf_35) ⟨zad (k := 0) rfl (by omega), zad (k := 0) rfl (by omega)⟩ hS (fun _ z => z.elim) (fun r H11 locs hp hF hS1 => ?_)
        obtain ⟨_, rfl, rfl⟩ := hp
        have hP := zpk hP hF
        have hP : va_P G.1 zCl ([(q9, zI G (St_n σ (St_ea σ j)) (pwV (St_p σ) (St_n σ (St_ea σ j)) (St_sg σ (St_ea σ j)) (St_ev σ j) (k - 1))), (qr9, zI G (St_n σ (St_ea σ j)) (pwV (St_p σ) (St_n σ (St_ea σ j)) (St_sg σ (St_ea σ j)) (St_ev σ j) (k)))]) H11 := hP
        have hD : va_D (zA M0 H0) ([(q9, zI G (St_n σ (St_ea σ j)) (pwV (St_p σ) (St_n σ (St_ea σ j)) (St_sg σ (St_ea σ j)) (St_ev σ j) (k - 1))), (qr9, zI G (St_n σ (St_ea σ j)) (pwV (St_p σ) (St_n σ (St_ea σ j)) (St_sg σ (St_ea σ j)) (St_ev σ j) (k)))]) := hD
        have hS := hS1
        refine z_zne (tgt := 43) hx hb dX3_nilOf_38 (by decide) (by omega) (fun c12 => ?_) (fun c12 => ?_)
        · refine z_iinc (z := ((k + 1 : Nat) : Int)) (lv' := [(3, .int (iI ((k + 1 : Nat) : Int))), (2, .ref qr9), (0, .ref (μ (0, 0, 0))), (1, .int (iI ((j : Nat) : Int)))]) hx hb dX3_nilOf_43 hl (k := 1) rfl (by omega) (by decide) rfl (fun ls hl => ?_)
          refine lv_goto (tgt := 11) hx hb dX3_nilOf_46 (by decide) ?_
          exact W.widen (by omega) (by omega) (ihlp4 (t + 1 - (k + 1)) (by omega) (k + 1) qr9 rfl (by omega) (by rw [← hf, fst_miss (k := k) (fp_zf rfl (zeV_f (by omega))) (by omega), show t + 1 - (k + 1) = t + 1 - k - 1 by omega]) _ _ _  (hP.sub [1] rfl) (hD.sub [1] (by decide) rfl) hS hl)
        · refine lv_iload_n hx hb dX3_nilOf_41 rfl (lv_at hl 1 rfl) ?_
          exact z_iret hC hrt hlk hQ hS ⟨zle (z := 70) rfl (by omega), zle (z := 1100) rfl (by omega)⟩ ⟨_, rfl, by rw [← hf]; exact (fst_hit (fp_zt rfl (zeV_t (by omega))) (by omega)).symm⟩ dX3_nilOf_42
  exact W.widen (by omega) (by omega) (lp4 _ 1 qr2 rfl (⟨by omega, by omega⟩) (by first | (rw [ht]; done) | (rw [ht]; rfl)) _ _ _  hP hD hS hl)

abbrev rm_m_X3_orderOf : Room := { frames := 4, cells := 70, slots := 1100, locals := 85 }
set_option maxHeartbeats 4000000 in
theorem m_X3_orderOf {l : Launch} {s0 : State} {G : zG} (hE : zE l s0 G) (H0 : Heap) (hO : zO s0 H0) (μ : Ro → Nat) (σ : St) (th : Int) (j : Nat) (hh : HM G s0 μ σ th H0) (hj : j < St_ne σ) : zM l s0 yX3_orderOf cX3_orderOf 4 (some FieldType.int) rm_m_X3_orderOf [.ref (μ (0, 0, 0)), .int (iI ((j : Nat) : Int))] H0 M0 (ri (fun y _ => y = fst (fpP (St_p σ) (St_n σ (St_ea σ j)) (St_sg σ (St_ea σ j)) (St_ev σ j) 1) 60 1)) := by
  refine z_met hE (by decide +kernel) (Nat.le_of_ble_eq_true rfl) ?_
  intro pp ee ss mm args below meth cd Q ls hC hml hrt hlk hnm hH hQ hS hl
  have hx := hC.x
  have hb := hC.b
  have hl : lv_has ls 4 [(0, .ref (μ (0, 0, 0))), (1, .int (iI ((j : Nat) : Int)))] := hl
  have hP : va_P G.1 zCl [] H0 := va_nil
  have hD : va_D (zA M0 H0) [] := va_nilD
  have hH1 := hh
  obtain ⟨hp, hna, hal, hne9, hel9, hmr9⟩ := id hh.ok
  have hp7 : 0 < St_p σ ∧ St_p σ ≤ 7 := by rcases hp with h | h | h <;> rw [h] <;> decide
  have heaj := hh.ea hj
  have hnn := hh.n heaj
  obtain ⟨t, ht⟩ : ∃ t : Nat, t = 60 := ⟨_, rfl⟩
  have ht6 : t ≤ 60 := by omega
  refine lv_aload_n hx hb dX3_orderOf_0 rfl (lv_at hl 0 rfl) ?_
  refine lv_iload_n hx hb dX3_orderOf_1 rfl (lv_at hl 1 rfl) ?_
  have hH1 : HM G s0 μ σ th H0 := hh.ext0 hE (zS_F hS)
  refine z_go 0 0 (z_runV (As := [.int (iI ((j : Nat) : Int))]) (rest := []) hC hml hl.1 (m_X3_home hE H0 (hO.ext0 (zS_F hS)) μ σ th j hH1 hj) (lw_V q1682 q1684 qs40 q67 q1685) rfl nd_X3_home rfl (z_rv hC (ci := 2) rfl hH1.2.2.1.1 rfl) rfl (Nat.le_of_ble_eq_true rfl) ⟨Nat.le_of_ble_eq_true rfl, Nat.le_of_ble_eq_true rfl⟩ ⟨zfit (k := 0) (z := 70) rfl rfl (by omega), zfit (k := 0) (z := 1100) rfl rfl (by omega)⟩ dX3_orderOf_2) ⟨zad (k := 0) rfl (by omega), zad (k := 0) rfl (by omega)⟩ hS (fun _ z => z.elim) (fun r H1 locs hp hF hS1 => ?_)
  obtain ⟨_, rfl, rfl⟩ := hp
  have hP := zpk hP hF
  have hP : va_P G.1 zCl ([]) H1 := hP
  have hD : va_D (zA M0 H0) ([]) := hD
  have hS := hS1
  have hH1 : HM G s0 μ σ th H1 := hh.ext0 hE (zS_F hS)
  have hsz9 : H0.size ≤ H1.size := hS.1
  have hUSt_eaσj := hH1.al (k := St_ea σ j) heaj
  refine z_go 1 16 (z_runV (As := []) (rest := []) hC hml hl.1 (m_X6_one hE H1 (hO.ext0 (zS_F hS)) μ σ th (St_ea σ j)  hH1 heaj ) (lw_V q1738 q1715 q1716 q82 q1717) rfl nd_X6_one rfl (z_rv hC (ci := 5) rfl hUSt_eaσj.1 rfl) rfl (Nat.le_of_ble_eq_true rfl) ⟨Nat.le_of_ble_eq_true rfl, Nat.le_of_ble_eq_true rfl⟩ ⟨zfit (k := 1) (z := 70) rfl rfl (by omega), zfit (k := 16) (z := 1100) rfl rfl (by omega)⟩ dX3_orderOf_5) ⟨zad (k := 1) rfl (by omega), zad (k := 16) rfl (by omega)⟩ hS (fun _ z => z.elim) (fun r H3 locs hp hF hS1 => ?_)
  obtain ⟨qr2, rfl, hN⟩ := hp
  obtain ⟨hP, hD⟩ := zjn hP hD hS.1 hF hN
  have hP : va_P G.1 zCl ([(qr2, zI G (St_n σ (St_ea σ j)) oneV)]) H3 := hP
  have hD : va_D (zA M0 H0) ([(qr2, zI G (St_n σ (St_ea σ j)) oneV)]) := hD
  have hS := hS1
  refine lv_astore_n (lv' := [(2, .ref qr2), (0, .ref (μ (0, 0, 0))), (1, .int (iI ((j : Nat) : Int)))]) hx hb dX3_orderOf_8 rfl hl (by decide) rfl (fun ls hl => ?_)
  refine lv_iconst (v := iI 1) hx hb dX3_orderOf_9 rfl ?_
  refine lv_istore_n (lv' := [(3, .int (iI 1)), (2, .ref qr2), (0, .ref (μ (0, 0, 0))), (1, .int (iI ((j : Nat) : Int)))]) hx hb dX3_orderOf_10 rfl hl (by decide) rfl (fun ls hl => ?_)
  have lp4 : ∀ (dlp4 : Nat) (k : Nat) (q9 : Nat), t + 1 - k = dlp4 → (1 ≤ k ∧ k ≤ t + 1) → (fst (fpP (St_p σ) (St_n σ (St_ea σ j)) (St_sg σ (St_ea σ j)) (St_ev σ j) 1) (t + 1 - k) k = fst (fpP (St_p σ) (St_n σ (St_ea σ j)) (St_sg σ (St_ea σ j)) (St_ev σ j) 1) 60 1) → ∀ (H5 : Heap) (locs : List Loc) (ls : Array Slot), va_P G.1 zCl ([(q9, zI G (St_n σ (St_ea σ j)) (pwV (St_p σ) (St_n σ (St_ea σ j)) (St_sg σ (St_ea σ j)) (St_ev σ j) (k - 1)))]) H5 → va_D (zA M0 H0) ([(q9, zI G (St_n σ (St_ea σ j)) (pwV (St_p σ) (St_n σ (St_ea σ j)) (St_sg σ (St_ea σ j)) (St_ev σ j) (k - 1)))]) → va_S (zA M0 H0) H0 H5 locs → lv_has ls 4 [(3, .int (iI ((k : Nat) : Int))), (2, .ref q9), (0, .ref (μ (0, 0, 0))), (1, .int (iI ((j : Nat) : Int)))] → W pp l ee rm_m_X3_orderOf ss mm args below meth cd H5 locs (1 + k - 1) (16 + 16 * (k - 1)) Q (F0 mm 11 ls []) := by
    intro dlp4
    induction dlp4 using Nat.strongRecOn with
    | ind dlp4 ihlp4 =>
      intro k q9 hdlp4 hk hf H5 locs ls  hP hD hS hl
      have hH1 : HM G s0 μ σ th H5 := hh.ext0 hE (zS_F hS)
      have hxx := hH1.2.2.1.1
      refine lv_iload_n hx hb dX3_orderOf_11 rfl (lv_at hl 0 rfl) ?_
      refine lv_bipush (v := iI 60) hx hb dX3_orderOf_12 (by decide) ?_
      refine z_cgt (tgt := 55) hx hb dX3_orderOf_14 (by decide) (by omega) (fun c6 => ?_) (fun c6 => ?_)
      · have ef : t + 1 - k = 0 := by omega
        refine lv_iconst (v := iI (-1)) hx hb dX3_orderOf_55 rfl ?_
        exact z_iret hC hrt hlk hQ hS ⟨zle (z := 70) rfl (by omega), zle (z := 1100) rfl (by omega)⟩ ⟨_, rfl, by rw [← hf, ef]; rfl⟩ dX3_orderOf_56
      · refine lv_aload_n hx hb dX3_orderOf_17 rfl (lv_at hl 2 rfl) ?_
        refine lv_iload_n hx hb dX3_orderOf_18 rfl (lv_at hl 3 rfl) ?_
        have hH1 : HM G s0 μ σ th H5 := hh.ext0 hE (zS_F hS)
        refine z_go (1 + k - 1) (16 + 16 * (k - 1)) (z_runV (As := [.int (iI ((j : Nat) : Int))]) (rest := []) hC hml hl.1 (m_X3_home hE H5 (hO.ext0 (zS_F hS)) μ σ th j hH1 hj) (lw_V q1682 q1684 qs40 q67 q1685) rfl nd_X3_home rfl (z_rv hC (ci := 2) rfl hH1.2.2.1.1 rfl) rfl (Nat.le_of_ble_eq_true rfl) ⟨Nat.le_of_ble_eq_true rfl, Nat.le_of_ble_eq_true rfl⟩ ⟨zfit (k := 0) (z := 70) rfl rfl (by omega), zfit (k := 0) (z := 1100) rfl rfl (by omega)⟩ dX3_orderOf_19) ⟨zad (k := 0) rfl (by omega), zad (k := 0) rfl (by omega)⟩ hS (fun _ z => z.elim) (fun r H7 locs hp hF hS1 => ?_)
        obtain ⟨_, rfl, rfl⟩ := hp
        have hP := zpk hP hF
        have hP : va_P G.1 zCl ([(q9, zI G (St_n σ (St_ea σ j)) (pwV (St_p σ) (St_n σ (St_ea σ j)) (St_sg σ (St_ea σ j)) (St_ev σ j) (k - 1)))]) H7 := hP
        have hD : va_D (zA M0 H0) ([(q9, zI G (St_n σ (St_ea σ j)) (pwV (St_p σ) (St_n σ (St_ea σ j)) (St_sg σ (St_ea σ j)) (St_ev σ j) (k - 1)))]) := hD
        have hS := hS1
        refine lv_aload_n hx hb dX3_orderOf_22 rfl (lv_at hl 1 rfl) ?_
        refine lv_aload_n hx hb dX3_orderOf_23 rfl (lv_at hl 2 rfl) ?_
        refine lv_iload_n hx hb dX3_orderOf_24 rfl (lv_at hl 3 rfl) ?_
        have hH1 : HM G s0 μ σ th H7 := hh.ext0 hE (zS_F hS)
        refine z_go (1 + k - 1) (16 + 16 * (k - 1)) (z_runV (As := [.int (iI ((j : Nat) : Int))]) (rest := [.ref q9, .ref (μ (6, St_ea σ j, 0))]) hC hml hl.1 (m_X3_row hE H7 (hO.ext0 (zS_F hS)) μ σ th j hH1 hj) (lw_V q1654 q1656 qs36 q67 q1657) rfl nd_X3_row rfl (z_rv hC (ci := 2) rfl hH1.2.2.1.1 rfl) rfl (Nat.le_of_ble_eq_true rfl) ⟨Nat.le_of_ble_eq_true rfl, Nat.le_of_ble_eq_true rfl⟩ ⟨zfit (k := 0) (z := 70) rfl rfl (by omega), zfit (k := 0) (z := 1100) rfl rfl (by omega)⟩ dX3_orderOf_25) ⟨zad (k := 0) rfl (by omega), zad (k := 0) rfl (by omega)⟩ hS (fun _ z => z.elim) (fun r H8 locs hp hF hS1 => ?_)
        obtain ⟨_, rfl, rfl⟩ := hp
        have hP := zpk hP hF
        have hP : va_P G.1 zCl ([(q9, zI G (St_n σ (St_ea σ j)) (pwV (St_p σ) (St_n σ (St_ea σ j)) (St_sg σ (St_ea σ j)) (St_ev σ j) (k - 1)))]) H8 := hP
        have hD : va_D (zA M0 H0) ([(q9, zI G (St_n σ (St_ea σ j)) (pwV (St_p σ) (St_n σ (St_ea σ j)) (St_sg σ (St_ea σ j)) (St_ev σ j) (k - 1)))]) := hD
        have hS := hS1
        have hH1 : HM G s0 μ σ th H8 := hh.ext0 hE (zS_F hS)
        have hRj := (hH1.el (j := j) (by omega)).2
        have hVj := hH1.row (j := j) (by omega)
        have hH1 : HM G s0 μ σ th H8 := hh.ext0 hE (zS_F hS)
        have hsz9 : H0.size ≤ H8.size := hS.1
        have hUSt_eaσj := hH1.al (k := St_ea σ j) heaj
        refine z_go ((1 + k - 1) + 1) ((16 + 16 * (k - 1)) + 16) (z_runV (As := [.ref q9, .ref (μ (14, j, 0))]) (rest := []) hC hml hl.1 (m_X6_times hE H8 (hO.ext0 (zS_F hS)) μ σ th (St_ea σ j) q9 (pwV (St_p σ) (St_n σ (St_ea σ j)) (St_sg σ (St_ea σ j)) (St_ev σ j) (k - 1)) (μ (14, j, 0)) (St_ev σ j)  hH1 heaj (hP 0 _ rfl) (pwV_ok hp _ _ _ _) hRj hVj ) (lw_V q1686 q1687 q1688 q82 q1689) rfl nd_X6_times rfl (z_rv hC (ci := 5) rfl hUSt_eaσj.1 rfl) rfl (Nat.le_of_ble_eq_true rfl) ⟨Nat.le_of_ble_eq_true rfl, Nat.le_of_ble_eq_true rfl⟩ ⟨zfit (k := 1) (z := 70) rfl rfl (by omega), zfit (k := 16) (z := 1100) rfl rfl (by omega)⟩ dX3_orderOf_28) ⟨zad (k := 1) rfl (by omega), zad (k := 16) rfl (by omega)⟩ hS (fun _ z => z.elim) (fun r H10 locs hp hF hS1 => ?_)
        obtain ⟨qr9, rfl, hN⟩ := hp
        obtain ⟨hP, hD⟩ := zjn hP hD hS.1 hF hN
        have hP : va_P G.1 zCl ([(q9, zI G (St_n σ (St_ea σ j)) (pwV (St_p σ) (St_n σ (St_ea σ j)) (St_sg σ (St_ea σ j)) (St_ev σ j) (k - 1))), (qr9, zI G (St_n σ (St_ea σ j)) (tmV (St_p σ) (St_n σ (St_ea σ j)) (St_sg σ (St_ea σ j)) (pwV (St_p σ) (St_n σ (St_ea σ j)) (St_sg σ (St_ea σ j)) (St_ev σ j) (k - 1)) (St_ev σ j)))]) H10 := hP
        have hD : va_D (zA M0 H0) ([(q9, zI G (St_n σ (St_ea σ j)) (pwV (St_p σ) (St_n σ (St_ea σ j)) (St_sg σ (St_ea σ j)) (St_ev σ j) (k - 1))), (qr9, zI G (St_n σ (St_ea σ j)) (tmV (St_p σ) (St_n σ (St_ea σ j)) (St_sg σ (St_ea σ j)) (pwV (St_p σ) (St_n σ (St_ea σ j)) (St_sg σ (St_ea σ j)) (St_ev σ j) (k - 1)) (St_ev σ j)))]) := hD
        have hS := hS1
        have ek : k - 1 + 1 = k := by omega
        have hP : va_P G.1 zCl ([(q9, zI G (St_n σ (St_ea σ j)) (pwV (St_p σ) (St_n σ (St_ea σ j)) (St_sg σ (St_ea σ j)) (St_ev σ j) (k - 1))), (qr9, zI G (St_n σ (St_ea σ j)) (pwV (St_p σ) (St_n σ (St_ea σ j)) (St_sg σ (St_ea σ j)) (St_ev σ j) (k)))]) H10 := zcI hP 1 rfl (fun j9 _ => by rw [← ek]; rfl)
        have hD : va_D (zA M0 H0) ([(q9, zI G (St_n σ (St_ea σ j)) (pwV (St_p σ) (St_n σ (St_ea σ j)) (St_sg σ (St_ea σ j)) (St_ev σ j) (k - 1))), (qr9, zI G (St_n σ (St_ea σ j)) (pwV (St_p σ) (St_n σ (St_ea σ j)) (St_sg σ (St_ea σ j)) (St_ev σ j) (k)))]) := hD.set (p := 1) rfl
        have hpk := pwV_ok hp (St_n σ (St_ea σ j)) (St_sg σ (St_ea σ j)) (St_ev σ j) k
        have hpk0 := hpk 0 (by omega)
        have hszk := szV_le (pwV (St_p σ) (St_n σ (St_ea σ j)) (St_sg σ (St_ea σ j)) (St_ev σ j) (k)) (St_n σ (St_ea σ j))
        refine lv_astore_n (lv' := [(2, .ref qr9), (3, .int (iI ((k : Nat) : Int))), (0, .ref (μ (0, 0, 0))), (1, .int (iI ((j : Nat) : Int)))]) hx hb dX3_orderOf_31 rfl hl (by decide) rfl (fun ls hl => ?_)
        refine lv_aload_n hx hb dX3_orderOf_32 rfl (lv_at hl 0 rfl) ?_
        refine lv_iconst (v := iI 0) hx hb dX3_orderOf_33 rfl ?_
        refine z_iald hC (hP 1 _ rfl) (k := 0) rfl (by omega) (y := (pwV (St_p σ) (St_n σ (St_ea σ j)) (St_sg σ (St_ea σ j)) (St_ev σ j) (k)) 0) rfl dX3_orderOf_34 ?_
        refine lv_iconst (v := iI 1) hx hb dX3_orderOf_35 rfl ?_
        refine z_cne (tgt := 49) hx hb dX3_orderOf_36 (by decide) (by omega) (fun c11 => ?_) (fun c11 => ?_)
        · refine z_iinc (z := ((k + 1 : Nat) : Int)) (lv' := [(3, .int (iI ((k + 1 : Nat) : Int))), (2, .ref qr9), (0, .ref (μ (0, 0, 0))), (1, .int (iI ((j : Nat) : Int)))]) hx hb dX3_orderOf_49 hl (k := 1) rfl (by omega) (by decide) rfl (fun ls hl => ?_)
          refine lv_goto (tgt := 11) hx hb dX3_orderOf_52 (by decide) ?_
          exact W.widen (by omega) (by omega) (ihlp4 (t + 1 - (k + 1)) (by omega) (k + 1) qr9 rfl (by omega) (by rw [← hf, fst_miss (k := k) (fp_of (by decide) (Or.inr (by omega))) (by omega), show t + 1 - (k + 1) = t + 1 - k - 1 by omega]) _ _ _  (hP.sub [1] rfl) (hD.sub [1] (by decide) rfl) hS hl)
        · refine lv_aload_n hx hb dX3_orderOf_39 rfl (lv_at hl 0 rfl) ?_
          refine z_go ((1 + k - 1) + 1) ((16 + 16 * (k - 1)) + 16) (z_runS (As := [.ref qr9]) (rest := []) hC hml hl.1 (m_X3_size hE H10 (hO.ext0 (zS_F hS)) qr9 (St_n σ (St_ea σ j)) (pwV (St_p σ) (St_n σ (St_ea σ j)) (St_sg σ (St_ea σ j)) (St_ev σ j) (k)) (hP 1 _ rfl) (fun j9 hj9 => by have := hpk j9 hj9; omega) hnn) (lw_S q1675 q1676 q67 q1677) nd_X3_size rfl rfl (Nat.le_of_ble_eq_true rfl) ⟨Nat.le_of_ble_eq_true rfl, Nat.le_of_ble_eq_true rfl⟩ ⟨zfit (k := 0) (z := 70) rfl rfl (by omega), zfit (k := 0) (z := 1100) rfl rfl (by omega)⟩ dX3_orderOf_40) ⟨zad (k := 0) rfl (by omega), zad (k := 0) rfl (by omega)⟩ hS (fun _ z => z.elim) (fun r H12 locs hp hF hS1 => ?_)
          obtain ⟨_, rfl, rfl⟩ := hp
          have hP := zpk hP hF
          have hP : va_P G.1 zCl ([(q9, zI G (St_n σ (St_ea σ j)) (pwV (St_p σ) (St_n σ (St_ea σ j)) (St_sg σ (St_ea σ j)) (St_ev σ j) (k - 1))), (qr9, zI G (St_n σ (St_ea σ j)) (pwV (St_p σ) (St_n σ (St_ea σ j)) (St_sg σ (St_ea σ j)) (St_ev σ j) (k)))]) H12 := hP
          have hD : va_D (zA M0 H0) ([(q9, zI G (St_n σ (St_ea σ j)) (pwV (St_p σ) (St_n σ (St_ea σ j)) (St_sg σ (St_ea σ j)) (St_ev σ j) (k - 1))), (qr9, zI G (St_n σ (St_ea σ j)) (pwV (St_p σ) (St_n σ (St_ea σ j)) (St_sg σ (St_ea σ j)) (St_ev σ j) (k)))]) := hD
          have hS := hS1
          refine lv_iconst (v := iI 1) hx hb dX3_orderOf_43 rfl ?_
          refine z_cne (tgt := 49) hx hb dX3_orderOf_44 (by decide) (by omega) (fun c13 => ?_) (fun c13 => ?_)
          · refine z_iinc (z := ((k + 1 : Nat) : Int)) (lv' := [(3, .int (iI ((k + 1 : Nat) : Int))), (2, .ref qr9), (0, .ref (μ (0, 0, 0))), (1, .int (iI ((j : Nat) : Int)))]) hx hb dX3_orderOf_49 hl (k := 1) rfl (by omega) (by decide) rfl (fun ls hl => ?_)
            refine lv_goto (tgt := 11) hx hb dX3_orderOf_52 (by decide) ?_
            exact W.widen (by omega) (by omega) (ihlp4 (t + 1 - (k + 1)) (by omega) (k + 1) qr9 rfl (by omega) (by rw [← hf, fst_miss (k := k) (fp_of (by decide) (Or.inl (paV_f (szV_p0 (by omega) (by omega)) (Or.inl (by omega))))) (by omega), show t + 1 - (k + 1) = t + 1 - k - 1 by omega]) _ _ _  (hP.sub [1] rfl) (hD.sub [1] (by decide) rfl) hS hl)
          · refine lv_iload_n hx hb dX3_orderOf_47 rfl (lv_at hl 1 rfl) ?_
            exact z_iret hC hrt hlk hQ hS ⟨zle (z := 70) rfl (by omega), zle (z := 1100) rfl (by omega)⟩ ⟨_, rfl, by rw [← hf]; exact (fst_hit (fp_ot (by decide) (pa1 (by omega) (by omega)) (by omega)) (by omega)).symm⟩ dX3_orderOf_48
  exact W.widen (by omega) (by omega) (lp4 _ 1 qr2 rfl (⟨by omega, by omega⟩) (by first | (rw [ht]; done) | (rw [ht]; rfl)) _ _ _  hP hD hS hl)

abbrev rm_m_X3_series : Room := { frames := 5, cells := 800, slots := 13000, locals := 108 }
set_option maxHeartbeats 4000000 in
theorem m_X3_series {l : Launch} {s0 : State} {G : zG} (hE : zE l s0 G) (H0 : Heap) (hO : zO s0 H0) (μ : Ro → Nat) (σ : St) (th : Int) (i j : Int) (hh : HM G s0 μ σ th H0) (hi : zi i ∧ zi j) : zM l s0 yX3_series cX3_series 7 (some FieldType.int) rm_m_X3_series [.ref (μ (0, 0, 0)), .int (iI i), .int (iI j)] H0 (FM G μ σ) (HPM G s0 H0 μ σ [IOB, IAE, ISE] ((fun y σ' => ∃ a b : Nat, (i = a ∧ a < St_ne σ) ∧ (j = b ∧ b < St_ne σ) ∧ St_ea σ a = St_ea σ b ∧ (enV (St_p σ) (St_n σ (St_ea σ a)) (St_sg σ (St_ea σ a)) (St_ev σ b) ≠ -1) ∧ σ' = stEl σ a (suV (St_p σ) (St_n σ (St_ea σ a)) (St_sg σ (St_ea σ a)) (St_ev σ b) (enV (St_p σ) (St_n σ (St_ea σ a)) (St_sg σ (St_ea σ a)) (St_ev σ b)).toNat) ∧ y = (szV (suV (St_p σ) (St_n σ (St_ea σ a)) (St_sg σ (St_ea σ a)) (St_ev σ b) (enV (St_p σ) (St_n σ (St_ea σ a)) (St_sg σ (St_ea σ a)) (St_ev σ b)).toNat) (St_n σ (St_ea σ a)) : Nat))) ((X2s σ i j (fun _ b => ¬ (enV (St_p σ) (St_n σ (St_ea σ b)) (St_sg σ (St_ea σ b)) (St_ev σ b) ≠ -1))))) := by
  refine z_met hE (by decide +kernel) (Nat.le_of_ble_eq_true rfl) ?_
  intro pp ee ss mm args below meth cd Q ls hC hml hrt hlk hnm hH hQ hS hl
  have hx := hC.x
  have hb := hC.b
  have hl : lv_has ls 7 [(0, .ref (μ (0, 0, 0))), (1, .int (iI i)), (2, .int (iI j))] := hl
  have hP : va_P G.1 zCl [] H0 := va_nil
  have hD : va_D (zA (FM G μ σ) H0) [] := va_nilD
  have hMo : ∀ z, (FM G μ σ) z → s0.heap.size ≤ z := fun z hz => FM.ge hh.sep hz
  have hH1 := hh
  obtain ⟨hp, hna, hal, hne9, hel9, hmr9⟩ := id hh.ok
  have hp7 : 0 < St_p σ ∧ St_p σ ≤ 7 := by rcases hp with h | h | h <;> rw [h] <;> decide
  have hP : va_P G.1 zCl [((μ (0, 0, 0)), zOb 2 [.int (iI th), .int (iI (St_p σ)), .int (iI ((St_kn σ : Nat) : Int)), .ref (μ (1, 0, 0)), .ref (μ (3, 0, 0))])] H0 := zP1 hh.2.2.1.1
  have hD : va_D (zA (FM G μ σ) H0) [((μ (0, 0, 0)), zOb 2 [.int (iI th), .int (iI (St_p σ)), .int (iI ((St_kn σ : Nat) : Int)), .ref (μ (1, 0, 0)), .ref (μ (3, 0, 0))])] := zD1 (Or.inl (FM.in hE hh.sep (domM0 0 (by omega)) (by simp [rAm])))
  refine lv_aload_n hx hb dX3_series_0 rfl (lv_at hl 0 rfl) ?_
  refine lv_iconst (v := iI 0) hx hb dX3_series_1 rfl ?_
  refine z_putO hC hP hD hS 0 (k := 0) rfl rfl in_X3 tyX3_ok nmX3 (by decide) q1495 (fun _ h => h) rfl rfl rfl rfl (Nat.le_of_ble_eq_true rfl) (ws' := [((μ (0, 0, 0)), zOb 2 [.int (iI 0), .int (iI (St_p σ)), .int (iI ((St_kn σ : Nat) : Int)), .ref (μ (1, 0, 0)), .ref (μ (3, 0, 0))])]) rfl dX3_series_2 (fun H1 locs hP hD hS hZ1 hZ2 => ?_)
  have hH1 : HM G s0 μ σ 0 H1 := HM.thr hE hH1 (zF.one hZ1 hZ2) (hP 0 _ rfl)
  have hP : va_P G.1 zCl [] H1 := va_nil
  have hD : va_D (zA (FM G μ σ) H0) [] := va_nilD
  refine lv_aload_n hx hb dX3_series_5 rfl (lv_at hl 0 rfl) ?_
  refine lv_iload_n hx hb dX3_series_6 rfl (lv_at hl 1 rfl) ?_
  refine z_go 0 0 (z_runV (As := [.int (iI i)]) (rest := []) hC hml hl.1 (m_X3_isElement hE H1 (hO.ext (zS_F hS) hMo) μ σ 0 i hH1 hi.1) (lw_V q1650 q1652 qs35 q67 q1653) rfl nd_X3_isElement rfl (z_rv hC (ci := 2) rfl hH1.2.2.1.1 rfl) rfl (Nat.le_of_ble_eq_true rfl) ⟨Nat.le_of_ble_eq_true rfl, Nat.le_of_ble_eq_true rfl⟩ ⟨zfit (k := 0) (z := 800) rfl rfl (by omega), zfit (k := 0) (z := 13000) rfl rfl (by omega)⟩ dX3_series_7) ⟨zad (k := 0) rfl (by omega), zad (k := 0) rfl (by omega)⟩ hS (fun _ z => z.elim) (fun r H2 locs hp hF hS1 => ?_)
  obtain ⟨_, rfl, rfl⟩ := hp
  have hP := zpk hP hF
  have hP : va_P G.1 zCl ([]) H2 := hP
  have hD : va_D (zA (FM G μ σ) H0) ([]) := hD
  have hH1 : HM G s0 μ σ 0 H2 := hH1.ext0 hE hF
  have hS := hS1
  obtain ⟨fl, hfl, hfl2⟩ : ∃ fl : Nat, fl ≤ 1 ∧ (if 0 ≤ i ∧ i < (((St_ne σ) : Nat) : Int) then (1 : Int) else 0) = fl ∧ (fl = 1 ↔ 0 ≤ i ∧ i < (((St_ne σ) : Nat) : Int)) := by by_cases h : 0 ≤ i ∧ i < (((St_ne σ) : Nat) : Int); exact ⟨1, by decide, by rw [if_pos h]; rfl, ⟨fun _ => h, fun _ => rfl⟩⟩; exact ⟨0, by decide, by rw [if_neg h]; rfl, ⟨fun z => absurd z (by decide), fun z => absurd z h⟩⟩
  refine z_top (b := ((fl : Nat) : Int)) (hfl2.1) ?_
  refine z_zeq (tgt := 21) hx hb dX3_series_10 (by decide) (by omega) (fun c3 => ?_) (fun c3 => ?_)
  · refine lv_aload_n hx hb dX3_series_21 rfl (lv_at hl 0 rfl) ?_
    refine lv_iconst (v := iI 1) hx hb dX3_series_22 rfl ?_
    have hHb := hH1
    refine z_go 0 0 (z_runV (As := [.int (iI 1)]) (rest := []) hC hml hl.1 (m_X3_no hE H2 (hO.ext (zS_F hS) hMo) μ σ 0 1 hHb) (lw_V q1520 q1522 qs29 q67 q1523) rfl nd_X3_no rfl (z_rv hC (ci := 2) rfl hHb.2.2.1.1 rfl) rfl (Nat.le_of_ble_eq_true rfl) ⟨Nat.le_of_ble_eq_true rfl, Nat.le_of_ble_eq_true rfl⟩ ⟨zfit (k := 0) (z := 800) rfl rfl (by omega), zfit (k := 0) (z := 13000) rfl rfl (by omega)⟩ dX3_series_23) ⟨zad (k := 0) rfl (by omega), zad (k := 0) rfl (by omega)⟩ hS (fun z hz => Or.inl (hz ▸ FM.in hE hh.sep (domM0 0 (by omega)) (by simp [rAm]))) (fun r H4 locs hp hF hS1 => ?_)
    obtain ⟨_, rfl, rfl, hx9⟩ := hp
    have hP : va_P G.1 zCl [] H4 := va_nil
    have hD : va_D (zA (FM G μ σ) H0) [] := va_nilD
    have hP : va_P G.1 zCl ([]) H4 := hP
    have hD : va_D (zA (FM G μ σ) H0) ([]) := hD
    have hS := hS1
    have hH9 : HM G s0 μ σ ((1 : Nat) : Int) H4 := HM.thr hE hHb hF hx9
    exact z_iret hC hrt hlk hQ hS ⟨zle (z := 800) rfl (by omega), zle (z := 13000) rfl (by omega)⟩ ⟨_, rfl, 1, σ, PoM.same hH9, Or.inr ⟨by decide, rfl, by decide, Or.inl (Or.inl ⟨rfl, fun z9 => by have h9 := hfl2.2.mpr (z9.1); omega⟩)⟩⟩ dX3_series_26
  · have hok9 := hfl2.2.mp (by omega)
    obtain ⟨a, rfl⟩ : ∃ a : Nat, i = a := ⟨i.toNat, by omega⟩
    have ha9 : a < St_ne σ := by omega
    refine lv_aload_n hx hb dX3_series_13 rfl (lv_at hl 0 rfl) ?_
    refine lv_iload_n hx hb dX3_series_14 rfl (lv_at hl 2 rfl) ?_
    refine z_go 0 0 (z_runV (As := [.int (iI j)]) (rest := []) hC hml hl.1 (m_X3_isElement hE H2 (hO.ext (zS_F hS) hMo) μ σ 0 j hH1 hi.2) (lw_V q1650 q1652 qs35 q67 q1653) rfl nd_X3_isElement rfl (z_rv hC (ci := 2) rfl hH1.2.2.1.1 rfl) rfl (Nat.le_of_ble_eq_true rfl) ⟨Nat.le_of_ble_eq_true rfl, Nat.le_of_ble_eq_true rfl⟩ ⟨zfit (k := 0) (z := 800) rfl rfl (by omega), zfit (k := 0) (z := 13000) rfl rfl (by omega)⟩ dX3_series_15) ⟨zad (k := 0) rfl (by omega), zad (k := 0) rfl (by omega)⟩ hS (fun _ z => z.elim) (fun r H5 locs hp hF hS1 => ?_)
    obtain ⟨_, rfl, rfl⟩ := hp
    have hP := zpk hP hF
    have hP : va_P G.1 zCl ([]) H5 := hP
    have hD : va_D (zA (FM G μ σ) H0) ([]) := hD
    have hH1 : HM G s0 μ σ 0 H5 := hH1.ext0 hE hF
    have hS := hS1
    obtain ⟨fl, hfl, hfl2⟩ : ∃ fl : Nat, fl ≤ 1 ∧ (if 0 ≤ j ∧ j < (((St_ne σ) : Nat) : Int) then (1 : Int) else 0) = fl ∧ (fl = 1 ↔ 0 ≤ j ∧ j < (((St_ne σ) : Nat) : Int)) := by by_cases h : 0 ≤ j ∧ j < (((St_ne σ) : Nat) : Int); exact ⟨1, by decide, by rw [if_pos h]; rfl, ⟨fun _ => h, fun _ => rfl⟩⟩; exact ⟨0, by decide, by rw [if_neg h]; rfl, ⟨fun z => absurd z (by decide), fun z => absurd z h⟩⟩
    refine z_top (b := ((fl : Nat) : Int)) (hfl2.1) ?_
    refine z_zne (tgt := 27) hx hb dX3_series_18 (by decide) (by omega) (fun c6 => ?_) (fun c6 => ?_)
    · have hok9 := hfl2.2.mp (by omega)
      obtain ⟨b, rfl⟩ : ∃ b : Nat, j = b := ⟨j.toNat, by omega⟩
      have hb9 : b < St_ne σ := by omega
      refine lv_aload_n hx hb dX3_series_27 rfl (lv_at hl 0 rfl) ?_
      refine lv_iload_n hx hb dX3_series_28 rfl (lv_at hl 1 rfl) ?_
      refine lv_iload_n hx hb dX3_series_29 rfl (lv_at hl 2 rfl) ?_
      refine z_go 0 0 (z_runV (As := [.int (iI ((a : Nat) : Int)), .int (iI ((b : Nat) : Int))]) (rest := []) hC hml hl.1 (m_X3_areOne hE H5 (hO.ext (zS_F hS) hMo) μ σ 0 a b hH1 ⟨by omega, by omega⟩) (lw_V q1662 q1664 qs37 q67 q1665) rfl nd_X3_areOne rfl (z_rv hC (ci := 2) rfl hH1.2.2.1.1 rfl) rfl (Nat.le_of_ble_eq_true rfl) ⟨Nat.le_of_ble_eq_true rfl, Nat.le_of_ble_eq_true rfl⟩ ⟨zfit (k := 0) (z := 800) rfl rfl (by omega), zfit (k := 0) (z := 13000) rfl rfl (by omega)⟩ dX3_series_30) ⟨zad (k := 0) rfl (by omega), zad (k := 0) rfl (by omega)⟩ hS (fun _ z => z.elim) (fun r H7 locs hp hF hS1 => ?_)
      obtain ⟨_, rfl, rfl⟩ := hp
      have hP := zpk hP hF
      have hP : va_P G.1 zCl ([]) H7 := hP
      have hD : va_D (zA (FM G μ σ) H0) ([]) := hD
      have hH1 : HM G s0 μ σ 0 H7 := hH1.ext0 hE hF
      have hS := hS1
      obtain ⟨fl, hfl, hfl2⟩ : ∃ fl : Nat, fl ≤ 1 ∧ (if St_ea σ a = St_ea σ b then (1 : Int) else 0) = fl ∧ (fl = 1 ↔ St_ea σ a = St_ea σ b) := by by_cases h : St_ea σ a = St_ea σ b; exact ⟨1, by decide, by rw [if_pos h]; rfl, ⟨fun _ => h, fun _ => rfl⟩⟩; exact ⟨0, by decide, by rw [if_neg h]; rfl, ⟨fun z => absurd z (by decide), fun z => absurd z h⟩⟩
      refine z_top (b := ((fl : Nat) : Int)) (hfl2.1) ?_
      refine z_zne (tgt := 42) hx hb dX3_series_33 (by decide) (by omega) (fun c8 => ?_) (fun c8 => ?_)
      · have hone : St_ea σ a = St_ea σ b := hfl2.2.mp (by omega)
        have hea := hh.ea (j := a) (by omega)
        have hnn := hh.n hea
        refine lv_aload_n hx hb dX3_series_42 rfl (lv_at hl 0 rfl) ?_
        refine lv_iload_n hx hb dX3_series_43 rfl (lv_at hl 2 rfl) ?_
        refine z_go 70 1100 (z_runV (As := [.int (iI ((b : Nat) : Int))]) (rest := []) hC hml hl.1 (m_X3_nilOf hE H7 (hO.ext (zS_F hS) hMo) μ σ 0 b hH1 (by omega)) (lw_V q1734 q1736 qs42 q67 q1737) rfl nd_X3_nilOf rfl (z_rv hC (ci := 2) rfl hH1.2.2.1.1 rfl) rfl (Nat.le_of_ble_eq_true rfl) ⟨Nat.le_of_ble_eq_true rfl, Nat.le_of_ble_eq_true rfl⟩ ⟨zfit (k := 70) (z := 800) rfl rfl (by omega), zfit (k := 1100) (z := 13000) rfl rfl (by omega)⟩ dX3_series_44) ⟨zad (k := 70) rfl (by omega), zad (k := 1100) rfl (by omega)⟩ hS (fun _ z => z.elim) (fun r H9 locs hp hF hS1 => ?_)
        obtain ⟨nl9, rfl, hnl⟩ := hp
        have hP := zpk hP hF
        have hP : va_P G.1 zCl ([]) H9 := hP
        have hD : va_D (zA (FM G μ σ) H0) ([]) := hD
        have hH1 : HM G s0 μ σ 0 H9 := hH1.ext0 hE hF
        have hS := hS1
        have hnl : nl9 = enV (St_p σ) (St_n σ (St_ea σ a)) (St_sg σ (St_ea σ a)) (St_ev σ b) := by rw [hnl, ← hone]; rfl
        have hin9 := fst_in (fpP (St_p σ) (St_n σ (St_ea σ a)) (St_sg σ (St_ea σ a)) (St_ev σ b) 0) (St_p σ).toNat 1
        have hin8 : enV (St_p σ) (St_n σ (St_ea σ a)) (St_sg σ (St_ea σ a)) (St_ev σ b) = fst (fpP (St_p σ) (St_n σ (St_ea σ a)) (St_sg σ (St_ea σ a)) (St_ev σ b) 0) (St_p σ).toNat 1 := rfl
        rw [← hin8, ← hnl] at hin9
        refine lv_istore_n (lv' := [(3, .int (iI nl9)), (0, .ref (μ (0, 0, 0))), (1, .int (iI ((a : Nat) : Int))), (2, .int (iI ((b : Nat) : Int)))]) hx hb dX3_series_47 rfl hl (by decide) rfl (fun ls hl => ?_)
        refine lv_iload_n hx hb dX3_series_48 rfl (lv_at hl 0 rfl) ?_
        refine lv_iconst (v := iI (-1)) hx hb dX3_series_49 rfl ?_
        refine z_cne (tgt := 59) hx hb dX3_series_50 (by decide) (by omega) (fun c10 => ?_) (fun c10 => ?_)
        · obtain ⟨mm9, hmm⟩ : ∃ mm9 : Nat, nl9 = mm9 := ⟨nl9.toNat, by omega⟩
          rw [hmm] at hl
          have hmp : 1 ≤ mm9 ∧ (mm9 : Int) ≤ St_p σ := by omega
          refine lv_aload_n hx hb dX3_series_59 rfl (lv_at hl 1 rfl) ?_
          refine lv_iload_n hx hb dX3_series_60 rfl (lv_at hl 3 rfl) ?_
          refine z_go 70 1100 (z_runV (As := [.int (iI ((b : Nat) : Int))]) (rest := []) hC hml hl.1 (m_X3_home hE H9 (hO.ext (zS_F hS) hMo) μ σ 0 b hH1 (by omega)) (lw_V q1682 q1684 qs40 q67 q1685) rfl nd_X3_home rfl (z_rv hC (ci := 2) rfl hH1.2.2.1.1 rfl) rfl (Nat.le_of_ble_eq_true rfl) ⟨Nat.le_of_ble_eq_true rfl, Nat.le_of_ble_eq_true rfl⟩ ⟨zfit (k := 0) (z := 800) rfl rfl (by omega), zfit (k := 0) (z := 13000) rfl rfl (by omega)⟩ dX3_series_61) ⟨zad (k := 0) rfl (by omega), zad (k := 0) rfl (by omega)⟩ hS (fun _ z => z.elim) (fun r H11 locs hp hF hS1 => ?_)
          obtain ⟨qh, rfl, hqh⟩ := hp
          have hP := zpk hP hF
          have hP : va_P G.1 zCl ([]) H11 := hP
          have hD : va_D (zA (FM G μ σ) H0) ([]) := hD
          have hH1 : HM G s0 μ σ 0 H11 := hH1.ext0 hE hF
          have hS := hS1
          rw [← hone] at hqh
          subst hqh
          have hsz9 : H0.size ≤ H11.size := hS.1
          have hUSt_eaσa := hH1.al (k := St_ea σ a) hea
          refine z_go 71 1116 (z_runV (As := []) (rest := []) hC hml hl.1 (m_X6_one hE H11 (hO.ext (zS_F hS) hMo) μ σ 0 (St_ea σ a)  hH1 hea ) (lw_V q1738 q1715 q1716 q82 q1717) rfl nd_X6_one rfl (z_rv hC (ci := 5) rfl hUSt_eaσa.1 rfl) rfl (Nat.le_of_ble_eq_true rfl) ⟨Nat.le_of_ble_eq_true rfl, Nat.le_of_ble_eq_true rfl⟩ ⟨zfit (k := 1) (z := 800) rfl rfl (by omega), zfit (k := 16) (z := 13000) rfl rfl (by omega)⟩ dX3_series_64) ⟨zad (k := 1) rfl (by omega), zad (k := 16) rfl (by omega)⟩ hS (fun _ z => z.elim) (fun r H13 locs hp hF hS1 => ?_)
          obtain ⟨qr12, rfl, hN⟩ := hp
          obtain ⟨hP, hD⟩ := zjn hP hD hS.1 hF hN
          have hP : va_P G.1 zCl ([(qr12, zI G (St_n σ (St_ea σ a)) oneV)]) H13 := hP
          have hD : va_D (zA (FM G μ σ) H0) ([(qr12, zI G (St_n σ (St_ea σ a)) oneV)]) := hD
          have hH1 : HM G s0 μ σ 0 H13 := hH1.ext0 hE hF
          have hS := hS1
          have hNwqr12 : H0.size ≤ qr12 := Nat.le_trans hsz9 (hN.2.2 0 _ rfl)
          have hP : va_P G.1 zCl ([(qr12, zI G (St_n σ (St_ea σ a)) (suV (St_p σ) (St_n σ (St_ea σ a)) (St_sg σ (St_ea σ a)) (St_ev σ b) (1)))]) H13 := zcI hP 0 rfl (su1 hp)
          have hD : va_D (zA (FM G μ σ) H0) ([(qr12, zI G (St_n σ (St_ea σ a)) (suV (St_p σ) (St_n σ (St_ea σ a)) (St_sg σ (St_ea σ a)) (St_ev σ b) (1)))]) := hD.set (p := 0) rfl
          refine lv_astore (lv' := [(4, .ref qr12), (3, .int (iI ((mm9 : Nat) : Int))), (0, .ref (μ (0, 0, 0))), (1, .int (iI ((a : Nat) : Int))), (2, .int (iI ((b : Nat) : Int)))]) hx hb dX3_series_67 hl (by decide) rfl (fun ls hl => ?_)
          refine lv_iconst (v := iI 1) hx hb dX3_series_69 rfl ?_
          refine lv_istore (lv' := [(5, .int (iI 1)), (4, .ref qr12), (3, .int (iI ((mm9 : Nat) : Int))), (0, .ref (μ (0, 0, 0))), (1, .int (iI ((a : Nat) : Int))), (2, .int (iI ((b : Nat) : Int)))]) hx hb dX3_series_70 hl (by decide) rfl (fun ls hl => ?_)
          refine lv_iconst (v := iI 1) hx hb dX3_series_72 rfl ?_
          refine lv_istore (lv' := [(6, .int (iI 1)), (5, .int (iI 1)), (4, .ref qr12), (3, .int (iI ((mm9 : Nat) : Int))), (0, .ref (μ (0, 0, 0))), (1, .int (iI ((a : Nat) : Int))), (2, .int (iI ((b : Nat) : Int)))]) hx hb dX3_series_73 hl (by decide) rfl (fun ls hl => ?_)
          have lp14 : ∀ (dlp14 : Nat) (c : Nat) (q9 : Nat), mm9 - c = dlp14 → (1 ≤ c ∧ c ≤ mm9) → (H0.size ≤ q9) → ∀ (H15 : Heap) (locs : List Loc) (ls : Array Slot), (HM G s0 μ σ 0 H15) → va_P G.1 zCl ([(q9, zI G (St_n σ (St_ea σ a)) (suV (St_p σ) (St_n σ (St_ea σ a)) (St_sg σ (St_ea σ a)) (St_ev σ b) (c)))]) H15 → va_D (zA (FM G μ σ) H0) ([(q9, zI G (St_n σ (St_ea σ a)) (suV (St_p σ) (St_n σ (St_ea σ a)) (St_sg σ (St_ea σ a)) (St_ev σ b) (c)))]) → va_S (zA (FM G μ σ) H0) H0 H15 locs → lv_has ls 7 [(6, .int (iI ((c : Nat) : Int))), (5, .int (iI (facV (St_p σ) (c - 1)))), (4, .ref q9), (3, .int (iI ((mm9 : Nat) : Int))), (0, .ref (μ (0, 0, 0))), (1, .int (iI ((a : Nat) : Int))), (2, .int (iI ((b : Nat) : Int)))] → W pp l ee rm_m_X3_series ss mm args below meth cd H15 locs (71 + 100 * (c - 1)) (1116 + 1600 * (c - 1)) Q (F0 mm 75 ls []) := by
            intro dlp14
            induction dlp14 using Nat.strongRecOn with
            | ind dlp14 ihlp14 =>
              intro c q9 hdlp14 hc hqr H15 locs ls hH1 hP hD hS hl
              refine lv_iload hx hb dX3_series_75 (lv_at hl 0 rfl) ?_
              refine lv_iload_n hx hb dX3_series_77 rfl (lv_at hl 3 rfl) ?_
              refine z_cge (tgt := 127) hx hb dX3_series_78 (by decide) (by omega) (fun c16 => ?_) (fun c16 => ?_)
              · have ec : c = mm9 := by omega
                have een : (enV (St_p σ) (St_n σ (St_ea σ a)) (St_sg σ (St_ea σ a)) (St_ev σ b)).toNat = c := by omega
                refine lv_aload_n hx hb dX3_series_127 rfl (lv_at hl 4 rfl) ?_
                refine lv_iload_n hx hb dX3_series_128 rfl (lv_at hl 5 rfl) ?_
                refine lv_aload hx hb dX3_series_129 (lv_at hl 2 rfl) ?_
                have hHb := hH1
                have hRb := hP 0 _ rfl
                refine z_go (71 + 100 * (c - 1)) (1116 + 1600 * (c - 1)) (z_runV (As := [.int (iI ((a : Nat) : Int)), .ref q9]) (rest := []) hC hml hl.1 (m_X3_put hE H15 (hO.ext (zS_F hS) hMo) μ σ 0 a q9 (suV (St_p σ) (St_n σ (St_ea σ a)) (St_sg σ (St_ea σ a)) (St_ev σ b) (c)) hHb (by omega) hRb (suV_ok hp _ _ _ _)) (lw_V q1671 q1673 qs39 q67 q1674) rfl nd_X3_put rfl (z_rv hC (ci := 2) rfl hHb.2.2.1.1 rfl) rfl (Nat.le_of_ble_eq_true rfl) ⟨Nat.le_of_ble_eq_true rfl, Nat.le_of_ble_eq_true rfl⟩ ⟨zfit (k := 0) (z := 800) rfl rfl (by omega), zfit (k := 0) (z := 13000) rfl rfl (by omega)⟩ dX3_series_131) ⟨zad (k := 0) rfl (by omega), zad (k := 0) rfl (by omega)⟩ hS (fun z hz => Or.inl (hz ▸ FM.in hE hh.sep (domME 13 a (Or.inl rfl) (by omega)) (by simp [rAm]))) (fun r H17 locs hp hF hS1 => ?_)
                obtain ⟨_, rfl, rfl, hm9⟩ := hp
                have hP : va_P G.1 zCl [] H17 := va_nil
                have hD : va_D (zA (FM G μ σ) H0) [] := va_nilD
                have hP : va_P G.1 zCl ([]) H17 := hP
                have hD : va_D (zA (FM G μ σ) H0) ([]) := hD
                have hS := hS1
                have hPo : PoM G s0 H0 μ σ (stEl σ a (suV (St_p σ) (St_n σ (St_ea σ a)) (St_sg σ (St_ea σ a)) (St_ev σ b) (c))) 0 H17 := HM.put hE hO hh hHb (by omega) hF hm9 (zAt.ext hRb hF (Ne.symm (z_noArr hE (ci := 7) (t := 0) rfl (hHb.el (j := a) (by omega)).1 rfl hRb))) hqr (suV_ok hp _ _ _ _)
                exact z_iret hC hrt hlk hQ hS ⟨zle (z := 800) rfl (by omega), zle (z := 13000) rfl (by omega)⟩ ⟨_, rfl, 0, stEl σ a (suV (St_p σ) (St_n σ (St_ea σ a)) (St_sg σ (St_ea σ a)) (St_ev σ b) (c)), hPo, Or.inl ⟨rfl, ⟨a, b, ⟨by omega, by omega⟩, ⟨by omega, by omega⟩, hone, by omega, by rw [een], by rw [een]⟩⟩⟩ dX3_series_134
              · have hcz : (c : Int) % St_p σ ≠ 0 := by rw [Int.emod_eq_of_lt (by omega) (by omega)]; omega
                have hfa := facV_in hp (c - 1)
                have hi9 := iv_ex hp hcz
                refine lv_aload_n hx hb dX3_series_81 rfl (lv_at hl 4 rfl) ?_
                refine lv_iload hx hb dX3_series_82 (lv_at hl 1 rfl) ?_
                refine lv_aload_n hx hb dX3_series_84 rfl (lv_at hl 4 rfl) ?_
                refine lv_iload hx hb dX3_series_85 (lv_at hl 0 rfl) ?_
                refine z_go (71 + 100 * (c - 1)) (1116 + 1600 * (c - 1)) (z_runV (As := [.int (iI ((c : Nat) : Int))]) (rest := [.int (iI (facV (St_p σ) (c - 1))), .ref (μ (0, 0, 0))]) hC hml hl.1 (m_X3_inverse hE H15 (hO.ext (zS_F hS) hMo) (μ (0, 0, 0)) (μ (1, 0, 0)) (μ (3, 0, 0)) 0 (St_p σ) (St_kn σ) ((c : Int)) hH1.2.2.1.1 hp hcz (by omega)) (lw_V q1726 q1728 qs41 q67 q1729) rfl nd_X3_inverse rfl (z_rv hC (ci := 2) rfl hH1.2.2.1.1 rfl) rfl (Nat.le_of_ble_eq_true rfl) ⟨Nat.le_of_ble_eq_true rfl, Nat.le_of_ble_eq_true rfl⟩ ⟨zfit (k := 0) (z := 800) rfl rfl (by omega), zfit (k := 0) (z := 13000) rfl rfl (by omega)⟩ dX3_series_87) ⟨zad (k := 0) rfl (by omega), zad (k := 0) rfl (by omega)⟩ hS (fun _ z => z.elim) (fun r H18 locs hp hF hS1 => ?_)
                obtain ⟨_, rfl, rfl⟩ := hp
                have hP := zpk hP hF
                have hP : va_P G.1 zCl ([(q9, zI G (St_n σ (St_ea σ a)) (suV (St_p σ) (St_n σ (St_ea σ a)) (St_sg σ (St_ea σ a)) (St_ev σ b) (c)))]) H18 := hP
                have hD : va_D (zA (FM G μ σ) H0) ([(q9, zI G (St_n σ (St_ea σ a)) (suV (St_p σ) (St_n σ (St_ea σ a)) (St_sg σ (St_ea σ a)) (St_ev σ b) (c)))]) := hD
                have hH1 : HM G s0 μ σ 0 H18 := hH1.ext0 hE hF
                have hS := hS1
                have hb9 := zmul6 (k := ivS (St_p σ) (c : Int)) (z := facV (St_p σ) (c - 1)) (w := 6) ⟨hi9.2.1, hi9.2.2.1⟩ (by omega)
                have hb8 : facV (St_p σ) (c - 1) * ivS (St_p σ) (c : Int) = ivS (St_p σ) (c : Int) * facV (St_p σ) (c - 1) := Int.mul_comm _ _
                refine z_mul hx hb (z := (facV (St_p σ) (c - 1)) * (ivS (St_p σ) (c : Int))) dX3_series_90 rfl ?_
                refine z_go (71 + 100 * (c - 1)) (1116 + 1600 * (c - 1)) (z_runV (As := [.int (iI ((facV (St_p σ) (c - 1)) * (ivS (St_p σ) (c : Int))))]) (rest := []) hC hml hl.1 (m_X3_mod hE H18 (hO.ext (zS_F hS) hMo) (μ (0, 0, 0)) (μ (1, 0, 0)) (μ (3, 0, 0)) 0 (St_p σ) (St_kn σ) (facV (St_p σ) (c - 1) * ivS (St_p σ) (c : Int)) hH1.2.2.1.1 hp (by omega)) (lw_V q1670 q1621 qs33 q67 q1622) rfl nd_X3_mod rfl (z_rv hC (ci := 2) rfl hH1.2.2.1.1 rfl) rfl (Nat.le_of_ble_eq_true rfl) ⟨Nat.le_of_ble_eq_true rfl, Nat.le_of_ble_eq_true rfl⟩ ⟨zfit (k := 0) (z := 800) rfl rfl (by omega), zfit (k := 0) (z := 13000) rfl rfl (by omega)⟩ dX3_series_91) ⟨zad (k := 0) rfl (by omega), zad (k := 0) rfl (by omega)⟩ hS (fun _ z => z.elim) (fun r H19 locs hp hF hS1 => ?_)
                obtain ⟨_, rfl, rfl⟩ := hp
                have hP := zpk hP hF
                have hP : va_P G.1 zCl ([(q9, zI G (St_n σ (St_ea σ a)) (suV (St_p σ) (St_n σ (St_ea σ a)) (St_sg σ (St_ea σ a)) (St_ev σ b) (c)))]) H19 := hP
                have hD : va_D (zA (FM G μ σ) H0) ([(q9, zI G (St_n σ (St_ea σ a)) (suV (St_p σ) (St_n σ (St_ea σ a)) (St_sg σ (St_ea σ a)) (St_ev σ b) (c)))]) := hD
                have hH1 : HM G s0 μ σ 0 H19 := hH1.ext0 hE hF
                have hS := hS1
                obtain ⟨c1, ec1⟩ : ∃ c1, c = c1 + 1 := ⟨c - 1, by omega⟩
                refine z_top (b := facV (St_p σ) c) (by rw [ec1]; rfl) ?_
                refine lv_istore (lv' := [(5, .int (iI (facV (St_p σ) c))), (6, .int (iI ((c : Nat) : Int))), (4, .ref q9), (3, .int (iI ((mm9 : Nat) : Int))), (0, .ref (μ (0, 0, 0))), (1, .int (iI ((a : Nat) : Int))), (2, .int (iI ((b : Nat) : Int)))]) hx hb dX3_series_94 hl (by decide) rfl (fun ls hl => ?_)
                refine lv_aload_n hx hb dX3_series_96 rfl (lv_at hl 4 rfl) ?_
                refine lv_aload hx hb dX3_series_97 (lv_at hl 2 rfl) ?_
                refine lv_aload_n hx hb dX3_series_99 rfl (lv_at hl 4 rfl) ?_
                refine lv_iload_n hx hb dX3_series_100 rfl (lv_at hl 6 rfl) ?_
                refine z_go (71 + 100 * (c - 1)) (1116 + 1600 * (c - 1)) (z_runV (As := [.int (iI ((b : Nat) : Int))]) (rest := [.ref q9, .ref (μ (0, 0, 0))]) hC hml hl.1 (m_X3_home hE H19 (hO.ext (zS_F hS) hMo) μ σ 0 b hH1 (by omega)) (lw_V q1682 q1684 qs40 q67 q1685) rfl nd_X3_home rfl (z_rv hC (ci := 2) rfl hH1.2.2.1.1 rfl) rfl (Nat.le_of_ble_eq_true rfl) ⟨Nat.le_of_ble_eq_true rfl, Nat.le_of_ble_eq_true rfl⟩ ⟨zfit (k := 0) (z := 800) rfl rfl (by omega), zfit (k := 0) (z := 13000) rfl rfl (by omega)⟩ dX3_series_101) ⟨zad (k := 0) rfl (by omega), zad (k := 0) rfl (by omega)⟩ hS (fun _ z => z.elim) (fun r H20 locs hp hF hS1 => ?_)
                obtain ⟨qh, rfl, hqh⟩ := hp
                have hP := zpk hP hF
                have hP : va_P G.1 zCl ([(q9, zI G (St_n σ (St_ea σ a)) (suV (St_p σ) (St_n σ (St_ea σ a)) (St_sg σ (St_ea σ a)) (St_ev σ b) (c)))]) H20 := hP
                have hD : va_D (zA (FM G μ σ) H0) ([(q9, zI G (St_n σ (St_ea σ a)) (suV (St_p σ) (St_n σ (St_ea σ a)) (St_sg σ (St_ea σ a)) (St_ev σ b) (c)))]) := hD
                have hH1 : HM G s0 μ σ 0 H20 := hH1.ext0 hE hF
                have hS := hS1
                rw [← hone] at hqh
                subst hqh
                have hRb := (hH1.el (j := b) (by omega)).2
                have hVb := hH1.row (j := b) (by omega)
                rw [← hone] at hRb hVb
                refine lv_aload_n hx hb dX3_series_104 rfl (lv_at hl 4 rfl) ?_
                refine lv_iload_n hx hb dX3_series_105 rfl (lv_at hl 6 rfl) ?_
                refine z_go (71 + 100 * (c - 1)) (1116 + 1600 * (c - 1)) (z_runV (As := [.int (iI ((b : Nat) : Int))]) (rest := [.ref (μ (6, St_ea σ a, 0)), .ref q9, .ref (μ (0, 0, 0))]) hC hml hl.1 (m_X3_row hE H20 (hO.ext (zS_F hS) hMo) μ σ 0 b hH1 (by omega)) (lw_V q1654 q1656 qs36 q67 q1657) rfl nd_X3_row rfl (z_rv hC (ci := 2) rfl hH1.2.2.1.1 rfl) rfl (Nat.le_of_ble_eq_true rfl) ⟨Nat.le_of_ble_eq_true rfl, Nat.le_of_ble_eq_true rfl⟩ ⟨zfit (k := 0) (z := 800) rfl rfl (by omega), zfit (k := 0) (z := 13000) rfl rfl (by omega)⟩ dX3_series_106) ⟨zad (k := 0) rfl (by omega), zad (k := 0) rfl (by omega)⟩ hS (fun _ z => z.elim) (fun r H21 locs hp hF hS1 => ?_)
                obtain ⟨_, rfl, rfl⟩ := hp
                have hP := zpk hP hF
                have hP : va_P G.1 zCl ([(q9, zI G (St_n σ (St_ea σ a)) (suV (St_p σ) (St_n σ (St_ea σ a)) (St_sg σ (St_ea σ a)) (St_ev σ b) (c)))]) H21 := hP
                have hD : va_D (zA (FM G μ σ) H0) ([(q9, zI G (St_n σ (St_ea σ a)) (suV (St_p σ) (St_n σ (St_ea σ a)) (St_sg σ (St_ea σ a)) (St_ev σ b) (c)))]) := hD
                have hH1 : HM G s0 μ σ 0 H21 := hH1.ext0 hE hF
                have hS := hS1
                have hRb := (hH1.el (j := b) (by omega)).2
                have hVb := hH1.row (j := b) (by omega)
                rw [← hone] at hRb hVb
                refine lv_iload hx hb dX3_series_109 (lv_at hl 1 rfl) ?_
                have hfc := facV_in hp c
                have hsz9 : H0.size ≤ H21.size := hS.1
                have hUSt_eaσa := hH1.al (k := St_ea σ a) hea
                refine z_go ((71 + 100 * (c - 1)) + 70) ((1116 + 1600 * (c - 1)) + 1100) (z_runV (As := [.ref (μ (14, b, 0)), .int (iI ((c : Nat) : Int))]) (rest := [.ref q9, .ref (μ (0, 0, 0))]) hC hml hl.1 (m_X6_power hE H21 (hO.ext (zS_F hS) hMo) μ σ 0 (St_ea σ a) (μ (14, b, 0)) (St_ev σ b) c hH1 hea hRb hVb (by omega)) (lw_V q1710 q1711 q1712 q82 q1713) rfl nd_X6_power rfl (z_rv hC (ci := 5) rfl hUSt_eaσa.1 rfl) rfl (Nat.le_of_ble_eq_true rfl) ⟨Nat.le_of_ble_eq_true rfl, Nat.le_of_ble_eq_true rfl⟩ ⟨zfit (k := 70) (z := 800) rfl rfl (by omega), zfit (k := 1100) (z := 13000) rfl rfl (by omega)⟩ dX3_series_111) ⟨zad (k := 70) rfl (by omega), zad (k := 1100) rfl (by omega)⟩ hS (fun _ z => z.elim) (fun r H23 locs hp hF hS1 => ?_)
                obtain ⟨qr22, rfl, hN⟩ := hp
                obtain ⟨hP, hD⟩ := zjn hP hD hS.1 hF hN
                have hP : va_P G.1 zCl ([(q9, zI G (St_n σ (St_ea σ a)) (suV (St_p σ) (St_n σ (St_ea σ a)) (St_sg σ (St_ea σ a)) (St_ev σ b) (c))), (qr22, zI G (St_n σ (St_ea σ a)) (pwV (St_p σ) (St_n σ (St_ea σ a)) (St_sg σ (St_ea σ a)) (St_ev σ b) c))]) H23 := hP
                have hD : va_D (zA (FM G μ σ) H0) ([(q9, zI G (St_n σ (St_ea σ a)) (suV (St_p σ) (St_n σ (St_ea σ a)) (St_sg σ (St_ea σ a)) (St_ev σ b) (c))), (qr22, zI G (St_n σ (St_ea σ a)) (pwV (St_p σ) (St_n σ (St_ea σ a)) (St_sg σ (St_ea σ a)) (St_ev σ b) c))]) := hD
                have hH1 : HM G s0 μ σ 0 H23 := hH1.ext0 hE hF
                have hS := hS1
                have hNwqr22 : H0.size ≤ qr22 := Nat.le_trans hsz9 (hN.2.2 0 _ rfl)
                refine lv_iload hx hb dX3_series_114 (lv_at hl 0 rfl) ?_
                have hsz9 : H0.size ≤ H23.size := hS.1
                refine z_go (((71 + 100 * (c - 1)) + 70) + 1) (((1116 + 1600 * (c - 1)) + 1100) + 16) (z_runV (As := [.ref q9, .ref qr22, .int (iI (facV (St_p σ) c))]) (rest := []) hC hml hl.1 (m_X3_plus hE H23 (hO.ext (zS_F hS) hMo) μ σ 0 (St_ea σ a) q9 (suV (St_p σ) (St_n σ (St_ea σ a)) (St_sg σ (St_ea σ a)) (St_ev σ b) (c)) qr22 (pwV (St_p σ) (St_n σ (St_ea σ a)) (St_sg σ (St_ea σ a)) (St_ev σ b) c) (facV (St_p σ) c) hH1 hea (hP 0 _ rfl) (suV_ok hp _ _ _ _) (hP 1 _ rfl) (pwV_ok hp _ _ _ _) (by omega)) (lw_V q1666 q1668 qs38 q67 q1669) rfl nd_X3_plus rfl (z_rv hC (ci := 2) rfl hH1.2.2.1.1 rfl) rfl (Nat.le_of_ble_eq_true rfl) ⟨Nat.le_of_ble_eq_true rfl, Nat.le_of_ble_eq_true rfl⟩ ⟨zfit (k := 1) (z := 800) rfl rfl (by omega), zfit (k := 16) (z := 13000) rfl rfl (by omega)⟩ dX3_series_116) ⟨zad (k := 1) rfl (by omega), zad (k := 16) rfl (by omega)⟩ hS (fun _ z => z.elim) (fun r H25 locs hp hF hS1 => ?_)
                obtain ⟨qr24, rfl, hN⟩ := hp
                obtain ⟨hP, hD⟩ := zjn hP hD hS.1 hF hN
                have hP : va_P G.1 zCl ([(q9, zI G (St_n σ (St_ea σ a)) (suV (St_p σ) (St_n σ (St_ea σ a)) (St_sg σ (St_ea σ a)) (St_ev σ b) (c))), (qr22, zI G (St_n σ (St_ea σ a)) (pwV (St_p σ) (St_n σ (St_ea σ a)) (St_sg σ (St_ea σ a)) (St_ev σ b) c)), (qr24, zI G (St_n σ (St_ea σ a)) (plV (St_p σ) (facV (St_p σ) c) (suV (St_p σ) (St_n σ (St_ea σ a)) (St_sg σ (St_ea σ a)) (St_ev σ b) (c)) (pwV (St_p σ) (St_n σ (St_ea σ a)) (St_sg σ (St_ea σ a)) (St_ev σ b) c)))]) H25 := hP
                have hD : va_D (zA (FM G μ σ) H0) ([(q9, zI G (St_n σ (St_ea σ a)) (suV (St_p σ) (St_n σ (St_ea σ a)) (St_sg σ (St_ea σ a)) (St_ev σ b) (c))), (qr22, zI G (St_n σ (St_ea σ a)) (pwV (St_p σ) (St_n σ (St_ea σ a)) (St_sg σ (St_ea σ a)) (St_ev σ b) c)), (qr24, zI G (St_n σ (St_ea σ a)) (plV (St_p σ) (facV (St_p σ) c) (suV (St_p σ) (St_n σ (St_ea σ a)) (St_sg σ (St_ea σ a)) (St_ev σ b) (c)) (pwV (St_p σ) (St_n σ (St_ea σ a)) (St_sg σ (St_ea σ a)) (St_ev σ b) c)))]) := hD
                have hH1 : HM G s0 μ σ 0 H25 := hH1.ext0 hE hF
                have hS := hS1
                have hNwqr24 : H0.size ≤ qr24 := Nat.le_trans hsz9 (hN.2.2 0 _ rfl)
                have hP : va_P G.1 zCl ([(q9, zI G (St_n σ (St_ea σ a)) (suV (St_p σ) (St_n σ (St_ea σ a)) (St_sg σ (St_ea σ a)) (St_ev σ b) (c))), (qr22, zI G (St_n σ (St_ea σ a)) (pwV (St_p σ) (St_n σ (St_ea σ a)) (St_sg σ (St_ea σ a)) (St_ev σ b) c)), (qr24, zI G (St_n σ (St_ea σ a)) (suV (St_p σ) (St_n σ (St_ea σ a)) (St_sg σ (St_ea σ a)) (St_ev σ b) (c + 1)))]) H25 := zcI hP 2 rfl (suV_fac hp (by omega))
                have hD : va_D (zA (FM G μ σ) H0) ([(q9, zI G (St_n σ (St_ea σ a)) (suV (St_p σ) (St_n σ (St_ea σ a)) (St_sg σ (St_ea σ a)) (St_ev σ b) (c))), (qr22, zI G (St_n σ (St_ea σ a)) (pwV (St_p σ) (St_n σ (St_ea σ a)) (St_sg σ (St_ea σ a)) (St_ev σ b) c)), (qr24, zI G (St_n σ (St_ea σ a)) (suV (St_p σ) (St_n σ (St_ea σ a)) (St_sg σ (St_ea σ a)) (St_ev σ b) (c + 1)))]) := hD.set (p := 2) rfl
                refine lv_astore (lv' := [(4, .ref qr24), (5, .int (iI (facV (St_p σ) c))), (6, .int (iI ((c : Nat) : Int))), (3, .int (iI ((mm9 : Nat) : Int))), (0, .ref (μ (0, 0, 0))), (1, .int (iI ((a : Nat) : Int))), (2, .int (iI ((b : Nat) : Int)))]) hx hb dX3_series_119 hl (by decide) rfl (fun ls hl => ?_)
                refine z_iinc (z := ((c + 1 : Nat) : Int)) (lv' := [(6, .int (iI ((c + 1 : Nat) : Int))), (4, .ref qr24), (5, .int (iI (facV (St_p σ) c))), (3, .int (iI ((mm9 : Nat) : Int))), (0, .ref (μ (0, 0, 0))), (1, .int (iI ((a : Nat) : Int))), (2, .int (iI ((b : Nat) : Int)))]) hx hb dX3_series_121 hl (k := 2) rfl (by omega) (by decide) rfl (fun ls hl => ?_)
                refine lv_goto (tgt := 75) hx hb dX3_series_124 (by decide) ?_
                exact W.widen (by omega) (by omega) (ihlp14 (mm9 - (c + 1)) (by omega) (c + 1) qr24 rfl (by omega) hNwqr24 _ _ _ hH1 (hP.sub [2] rfl) (hD.sub [2] (by decide) rfl) hS (lv_sub hl [0, 2, 1, 3, 4, 5, 6] rfl))
          exact W.widen (by omega) (by omega) (lp14 _ 1 qr12 rfl (⟨by omega, by omega⟩) hNwqr12 _ _ _ hH1 hP hD hS hl)
        · refine lv_aload_n hx hb dX3_series_53 rfl (lv_at hl 1 rfl) ?_
          refine lv_iconst (v := iI 3) hx hb dX3_series_54 rfl ?_
          have hHb := hH1
          refine z_go 70 1100 (z_runV (As := [.int (iI 3)]) (rest := []) hC hml hl.1 (m_X3_no hE H9 (hO.ext (zS_F hS) hMo) μ σ 0 3 hHb) (lw_V q1520 q1522 qs29 q67 q1523) rfl nd_X3_no rfl (z_rv hC (ci := 2) rfl hHb.2.2.1.1 rfl) rfl (Nat.le_of_ble_eq_true rfl) ⟨Nat.le_of_ble_eq_true rfl, Nat.le_of_ble_eq_true rfl⟩ ⟨zfit (k := 0) (z := 800) rfl rfl (by omega), zfit (k := 0) (z := 13000) rfl rfl (by omega)⟩ dX3_series_55) ⟨zad (k := 0) rfl (by omega), zad (k := 0) rfl (by omega)⟩ hS (fun z hz => Or.inl (hz ▸ FM.in hE hh.sep (domM0 0 (by omega)) (by simp [rAm]))) (fun r H26 locs hp hF hS1 => ?_)
          obtain ⟨_, rfl, rfl, hx9⟩ := hp
          have hP : va_P G.1 zCl [] H26 := va_nil
          have hD : va_D (zA (FM G μ σ) H0) [] := va_nilD
          have hP : va_P G.1 zCl ([]) H26 := hP
          have hD : va_D (zA (FM G μ σ) H0) ([]) := hD
          have hS := hS1
          have hH9 : HM G s0 μ σ ((3 : Nat) : Int) H26 := HM.thr hE hHb hF hx9
          exact z_iret hC hrt hlk hQ hS ⟨zle (z := 800) rfl (by omega), zle (z := 13000) rfl (by omega)⟩ ⟨_, rfl, 3, σ, PoM.same hH9, Or.inr ⟨by decide, rfl, by decide, Or.inr ⟨rfl, inE_n (by omega), inE_n (by omega), hone, fun z9 => by have z9 : enV (St_p σ) (St_n σ (St_ea σ b)) (St_sg σ (St_ea σ b)) (St_ev σ b) ≠ -1 := z9; rw [← hone] at z9; omega⟩⟩⟩ dX3_series_58
      · refine lv_aload_n hx hb dX3_series_36 rfl (lv_at hl 0 rfl) ?_
        refine lv_iconst (v := iI 2) hx hb dX3_series_37 rfl ?_
        have hHb := hH1
        refine z_go 0 0 (z_runV (As := [.int (iI 2)]) (rest := []) hC hml hl.1 (m_X3_no hE H7 (hO.ext (zS_F hS) hMo) μ σ 0 2 hHb) (lw_V q1520 q1522 qs29 q67 q1523) rfl nd_X3_no rfl (z_rv hC (ci := 2) rfl hHb.2.2.1.1 rfl) rfl (Nat.le_of_ble_eq_true rfl) ⟨Nat.le_of_ble_eq_true rfl, Nat.le_of_ble_eq_true rfl⟩ ⟨zfit (k := 0) (z := 800) rfl rfl (by omega), zfit (k := 0) (z := 13000) rfl rfl (by omega)⟩ dX3_series_38) ⟨zad (k := 0) rfl (by omega), zad (k := 0) rfl (by omega)⟩ hS (fun z hz => Or.inl (hz ▸ FM.in hE hh.sep (domM0 0 (by omega)) (by simp [rAm]))) (fun r H27 locs hp hF hS1 => ?_)
        obtain ⟨_, rfl, rfl, hx9⟩ := hp
        have hP : va_P G.1 zCl [] H27 := va_nil
        have hD : va_D (zA (FM G μ σ) H0) [] := va_nilD
        have hP : va_P G.1 zCl ([]) H27 := hP
        have hD : va_D (zA (FM G μ σ) H0) ([]) := hD
        have hS := hS1
        have hH9 : HM G s0 μ σ ((2 : Nat) : Int) H27 := HM.thr hE hHb hF hx9
        exact z_iret hC hrt hlk hQ hS ⟨zle (z := 800) rfl (by omega), zle (z := 13000) rfl (by omega)⟩ ⟨_, rfl, 2, σ, PoM.same hH9, Or.inr ⟨by decide, rfl, by decide, Or.inl (Or.inr ⟨rfl, inE_n (by omega), inE_n (by omega), fun z9 => by have h9 := hfl2.2.mpr z9.1; omega⟩)⟩⟩ dX3_series_41
    · refine lv_aload_n hx hb dX3_series_21 rfl (lv_at hl 0 rfl) ?_
      refine lv_iconst (v := iI 1) hx hb dX3_series_22 rfl ?_
      have hHb := hH1
      refine z_go 0 0 (z_runV (As := [.int (iI 1)]) (rest := []) hC hml hl.1 (m_X3_no hE H5 (hO.ext (zS_F hS) hMo) μ σ 0 1 hHb) (lw_V q1520 q1522 qs29 q67 q1523) rfl nd_X3_no rfl (z_rv hC (ci := 2) rfl hHb.2.2.1.1 rfl) rfl (Nat.le_of_ble_eq_true rfl) ⟨Nat.le_of_ble_eq_true rfl, Nat.le_of_ble_eq_true rfl⟩ ⟨zfit (k := 0) (z := 800) rfl rfl (by omega), zfit (k := 0) (z := 13000) rfl rfl (by omega)⟩ dX3_series_23) ⟨zad (k := 0) rfl (by omega), zad (k := 0) rfl (by omega)⟩ hS (fun z hz => Or.inl (hz ▸ FM.in hE hh.sep (domM0 0 (by omega)) (by simp [rAm]))) (fun r H28 locs hp hF hS1 => ?_)
      obtain ⟨_, rfl, rfl, hx9⟩ := hp
      have hP : va_P G.1 zCl [] H28 := va_nil
      have hD : va_D (zA (FM G μ σ) H0) [] := va_nilD
      have hP : va_P G.1 zCl ([]) H28 := hP
      have hD : va_D (zA (FM G μ σ) H0) ([]) := hD
      have hS := hS1
      have hH9 : HM G s0 μ σ ((1 : Nat) : Int) H28 := HM.thr hE hHb hF hx9
      exact z_iret hC hrt hlk hQ hS ⟨zle (z := 800) rfl (by omega), zle (z := 13000) rfl (by omega)⟩ ⟨_, rfl, 1, σ, PoM.same hH9, Or.inr ⟨by decide, rfl, by decide, Or.inl (Or.inl ⟨rfl, fun z9 => by have h9 := hfl2.2.mpr (z9.2); omega⟩)⟩⟩ dX3_series_26

abbrev rm_m_X3_less : Room := { frames := 1, cells := 0, slots := 0, locals := 21 }
set_option maxHeartbeats 4000000 in
theorem m_X3_less {l : Launch} {s0 : State} {G : zG} (hE : zE l s0 G) (H0 : Heap) (hO : zO s0 H0) (μ : Ro → Nat) (σ : St) (th : Int) (a b n : Nat) (v w : Nat → Int) (t : Int) (hh : HM G s0 μ σ th H0) (ha : zAt G a (zI G n v) H0) (hb1 : zAt G b (zI G n w) H0) (hab : s0.heap.size ≤ a ∧ b ≠ a) (hv : rw_ok (St_p σ) n v ∧ rw_ok (St_p σ) n w ∧ n ≤ 16) (ht : 0 ≤ t ∧ t < 7) (hnaw : ∀ c, dmMo σ c → μ c ≠ G.2 12 → μ c ≠ a) : zM l s0 yX3_less cX3_less 5 (none : Option FieldType) rm_m_X3_less [.ref (μ (0, 0, 0)), .ref a, .ref b, .int (iI t)] H0 (fun z => z = a) (rv (fun h1 => zAt G a (zI G n (ltV (St_p σ) t v w)) h1)) := by
  refine z_met hE (by decide +kernel) (Nat.le_of_ble_eq_true rfl) ?_
  intro pp ee ss mm args below meth cd Q ls hC hml hrt hlk hnm hH hQ hS hl
  have hx := hC.x
  have hb := hC.b
  have hl : lv_has ls 5 [(0, .ref (μ (0, 0, 0))), (1, .ref a), (2, .ref b), (3, .int (iI t))] := hl
  have hP : va_P G.1 zCl [(a, zI G n v)] H0 := zP1 ha
  have hD : va_D (zA (fun z => z = a) H0) [(a, zI G n v)] := zD1 (Or.inl rfl)
  have hMo : ∀ z, (fun z => z = a) z → s0.heap.size ≤ z := fun z hz => hz ▸ hab.1
  have hH1 := hh
  obtain ⟨hp, hna, hal, hne9, hel9, hmr9⟩ := id hh.ok
  have hp7 : 0 < St_p σ ∧ St_p σ ≤ 7 := by rcases hp with h | h | h <;> rw [h] <;> decide
  have hx9 : μ (0, 0, 0) ≠ a := hnaw _ (domM0 0 (by omega)) (hh.sep.n12 hE (domM0 0 (by omega)) (by simp [rAm]))
  refine lv_iconst (v := iI 0) hx hb dX3_less_0 rfl ?_
  refine lv_istore (lv' := [(4, .int (iI 0)), (0, .ref (μ (0, 0, 0))), (1, .ref a), (2, .ref b), (3, .int (iI t))]) hx hb dX3_less_1 hl (by decide) rfl (fun ls hl => ?_)
  have lp1 : ∀ (dlp1 : Nat) (k : Nat) (f : Nat → Int), n - k = dlp1 → (k ≤ n) → (∀ j, j < n → f j = if j < k then ltV (St_p σ) t v w j else v j) → ∀ (H2 : Heap) (locs : List Loc) (ls : Array Slot), va_P G.1 zCl ([(a, zI G n f)]) H2 → va_D (zA (fun z => z = a) H0) ([(a, zI G n f)]) → va_S (zA (fun z => z = a) H0) H0 H2 locs → lv_has ls 5 [(4, .int (iI ((k : Nat) : Int))), (0, .ref (μ (0, 0, 0))), (1, .ref a), (2, .ref b), (3, .int (iI t))] → W pp l ee rm_m_X3_less ss mm args below meth cd H2 locs 0 0 Q (F0 mm 3 ls []) := by
    intro dlp1
    induction dlp1 using Nat.strongRecOn with
    | ind dlp1 ihlp1 =>
      intro k f hdlp1 hk hf H2 locs ls  hP hD hS hl
      refine lv_iload hx hb dX3_less_3 (lv_at hl 0 rfl) ?_
      refine lv_aload_n hx hb dX3_less_5 rfl (lv_at hl 2 rfl) ?_
      refine z_alen hC 0 (hP 0 _ rfl) rfl (y := ((n : Nat) : Int)) rfl dX3_less_6 ?_
      refine z_cge (tgt := 35) hx hb dX3_less_7 (by decide) (by omega) (fun c3 => ?_) (fun c3 => ?_)
      · have hP : va_P G.1 zCl ([(a, zI G n (ltV (St_p σ) t v w))]) H2 := zcI hP 0 rfl (fun j hj => by rw [hf j hj, if_pos (by omega)])
        have hD : va_D (zA (fun z => z = a) H0) ([(a, zI G n (ltV (St_p σ) t v w))]) := hD.set (p := 0) rfl
        exact z_vret hC hrt hlk hQ hS ⟨zle (z := 0) rfl (by omega), zle (z := 0) rfl (by omega)⟩ ⟨rfl, hP 0 _ rfl⟩ dX3_less_35
      · have hvk := hv.1 k (by omega)
        have hwk := hv.2.1 k (by omega)
        have hb2 : -70 ≤ t * w k ∧ t * w k ≤ 70 := zmulb (by omega) hwk hp7
        have hfk : f k = v k := by rw [hf k (by omega), if_neg (by omega)]
        have hfb : -10 ≤ f k ∧ f k ≤ 10 := by omega
        refine lv_aload_n hx hb dX3_less_10 rfl (lv_at hl 2 rfl) ?_
        refine lv_iload hx hb dX3_less_11 (lv_at hl 0 rfl) ?_
        refine lv_aload_n hx hb dX3_less_13 rfl (lv_at hl 1 rfl) ?_
        refine lv_aload_n hx hb dX3_less_14 rfl (lv_at hl 2 rfl) ?_
        refine lv_iload hx hb dX3_less_15 (lv_at hl 0 rfl) ?_
        refine z_iald hC (hP 0 _ rfl) (k := k) rfl (by omega) (y := f k) rfl dX3_less_17 ?_
        refine lv_iload_n hx hb dX3_less_18 rfl (lv_at hl 4 rfl) ?_
        refine lv_aload_n hx hb dX3_less_19 rfl (lv_at hl 3 rfl) ?_
        refine lv_iload hx hb dX3_less_20 (lv_at hl 0 rfl) ?_
        refine z_iald hC (zo hS hb1 hab.2) (k := k) rfl (by omega) (y := w k) rfl dX3_less_22 ?_
        refine z_mul hx hb (z := t * (w k)) dX3_less_23 rfl ?_
        refine z_sub hx hb (z := (f k) - (t * (w k))) dX3_less_24 rfl ?_
        refine z_go 0 0 (z_runV (As := [.int (iI ((f k) - (t * (w k))))]) (rest := [.int (iI ((k : Nat) : Int)), .ref a]) hC hml hl.1 (m_X3_mod hE H2 (hO.ext (zS_F hS) hMo) (μ (0, 0, 0)) (μ (1, 0, 0)) (μ (3, 0, 0)) th (St_p σ) (St_kn σ) (f k - t * w k) (zo hS hh.2.2.1.1 hx9) hp (by omega)) (lw_V q1670 q1621 qs33 q67 q1622) rfl nd_X3_mod rfl (z_rv hC (ci := 2) rfl (zo hS hh.2.2.1.1 hx9) rfl) rfl (Nat.le_of_ble_eq_true rfl) ⟨Nat.le_of_ble_eq_true rfl, Nat.le_of_ble_eq_true rfl⟩ ⟨zfit (k := 0) (z := 0) rfl rfl (by omega), zfit (k := 0) (z := 0) rfl rfl (by omega)⟩ dX3_less_25) ⟨zad (k := 0) rfl (by omega), zad (k := 0) rfl (by omega)⟩ hS (fun _ z => z.elim) (fun r H4 locs hp hF hS1 => ?_)
        obtain ⟨_, rfl, rfl⟩ := hp
        have hP := zpk hP hF
        have hP : va_P G.1 zCl ([(a, zI G n f)]) H4 := hP
        have hD : va_D (zA (fun z => z = a) H0) ([(a, zI G n f)]) := hD
        have hS := hS1
        refine z_iast hC hP hD hS 0 (k := k) rfl rfl (by omega) (ws' := [(a, zI G n (va_up f k ((f k - t * w k) % St_p σ)))]) rfl dX3_less_28 (fun H5 locs hP hD hS => ?_)
        refine z_iinc (z := ((k + 1 : Nat) : Int)) (lv' := [(4, .int (iI ((k + 1 : Nat) : Int))), (0, .ref (μ (0, 0, 0))), (1, .ref a), (2, .ref b), (3, .int (iI t))]) hx hb dX3_less_29 hl (k := 0) rfl (by omega) (by decide) rfl (fun ls hl => ?_)
        refine lv_goto (tgt := 3) hx hb dX3_less_32 (by decide) ?_
        exact W.widen (by omega) (by omega) (ihlp1 (n - (k + 1)) (by omega) (k + 1) (va_up f k ((f k - t * w k) % St_p σ)) rfl (by omega) (fun j hj => by by_cases e : j = k; (subst e; rw [va_up_self, hfk, if_pos (by omega)]; rfl); (rw [va_up_ne _ _ e, hf j hj]; congr 1; exact propext ⟨fun z => by omega, fun z => by omega⟩)) _ _ _  hP hD hS hl)
  exact W.widen (by omega) (by omega) (lp1 _ 0 v rfl (Nat.zero_le _) (fun j hj => by rw [if_neg (Nat.not_lt_zero j)]) _ _ _  hP hD hS hl)

abbrev rm_m_X3_columns : Room := { frames := 4, cells := 40, slots := 600, locals := 85 }
set_option maxHeartbeats 4000000 in
theorem m_X3_columns {l : Launch} {s0 : State} {G : zG} (hE : zE l s0 G) (H0 : Heap) (hO : zO s0 H0) (μ : Ro → Nat) (σ : St) (th : Int) (j : Nat) (b : Nat) (hh : HM G s0 μ σ th H0) (hj : j < St_ne σ) (hb1 : b ≤ 1) : zM l s0 yX3_columns cX3_columns 7 (some (FieldType.array (FieldType.array FieldType.int))) rm_m_X3_columns [.ref (μ (0, 0, 0)), .int (iI ((j : Nat) : Int)), .int (iI ((b : Nat) : Int))] H0 M0 (rr (fun q h1 => ∃ (ro : Nat → Nat) (F : Nat → Nat → Int), (∀ c i, c < St_n σ (St_ea σ j) → i < St_n σ (St_ea σ j) → F c i = (mxV (St_p σ) (St_ev σ j) (St_sg σ (St_ea σ j)) b) i c) ∧ NW G H0 h1 ([(q, zII G (St_n σ (St_ea σ j)) (fun i => some (ro i)))] ++ (zRows G (St_n σ (St_ea σ j)) (St_n σ (St_ea σ j)) ro F ++ [])))) := by
  refine z_met hE (by decide +kernel) (Nat.le_of_ble_eq_true rfl) ?_
  intro pp ee ss mm args below meth cd Q ls hC hml hrt hlk hnm hH hQ hS hl
  have hx := hC.x
  have hb := hC.b
  have hl : lv_has ls 7 [(0, .ref (μ (0, 0, 0))), (1, .int (iI ((j : Nat) : Int))), (2, .int (iI ((b : Nat) : Int)))] := hl
  have hP : va_P G.1 zCl [] H0 := va_nil
  have hD : va_D (zA M0 H0) [] := va_nilD
  have hH1 := hh
  obtain ⟨hp, hna, hal, hne9, hel9, hmr9⟩ := id hh.ok
  have hp7 : 0 < St_p σ ∧ St_p σ ≤ 7 := by rcases hp with h | h | h <;> rw [h] <;> decide
  have heaj := hh.ea hj
  have hnn := hh.n heaj
  refine lv_aload_n hx hb dX3_columns_0 rfl (lv_at hl 0 rfl) ?_
  refine lv_iload_n hx hb dX3_columns_1 rfl (lv_at hl 1 rfl) ?_
  have hH1 : HM G s0 μ σ th H0 := hh.ext0 hE (zS_F hS)
  refine z_go 0 0 (z_runV (As := [.int (iI ((j : Nat) : Int))]) (rest := []) hC hml hl.1 (m_X3_row hE H0 (hO.ext0 (zS_F hS)) μ σ th j hH1 hj) (lw_V q1654 q1656 qs36 q67 q1657) rfl nd_X3_row rfl (z_rv hC (ci := 2) rfl hH1.2.2.1.1 rfl) rfl (Nat.le_of_ble_eq_true rfl) ⟨Nat.le_of_ble_eq_true rfl, Nat.le_of_ble_eq_true rfl⟩ ⟨zfit (k := 0) (z := 40) rfl rfl (by omega), zfit (k := 0) (z := 600) rfl rfl (by omega)⟩ dX3_columns_2) ⟨zad (k := 0) rfl (by omega), zad (k := 0) rfl (by omega)⟩ hS (fun _ z => z.elim) (fun r H1 locs hp hF hS1 => ?_)
  obtain ⟨_, rfl, rfl⟩ := hp
  have hP := zpk hP hF
  have hP : va_P G.1 zCl ([]) H1 := hP
  have hD : va_D (zA M0 H0) ([]) := hD
  have hS := hS1
  have hH1 : HM G s0 μ σ th H1 := hh.ext0 hE (zS_F hS)
  have hRj := (hH1.el (j := j) (by omega)).2
  have hVj := hH1.row (j := j) (by omega)
  refine z_alen hC 0 hRj rfl (y := ((St_n σ (St_ea σ j) : Nat) : Int)) rfl dX3_columns_5 ?_
  refine lv_istore_n (lv' := [(3, .int (iI ((St_n σ (St_ea σ j) : Nat) : Int))), (0, .ref (μ (0, 0, 0))), (1, .int (iI ((j : Nat) : Int))), (2, .int (iI ((b : Nat) : Int)))]) hx hb dX3_columns_6 rfl hl (by decide) rfl (fun ls hl => ?_)
  refine lv_iload_n hx hb dX3_columns_7 rfl (lv_at hl 0 rfl) ?_
  refine z_newII hC hP hD hS (N := St_n σ (St_ea σ j)) (c1 := 1) (s1 := 16) q1748 rfl (by omega) ⟨zle (z := 40) rfl (by omega), zle (z := 600) rfl (by omega)⟩ ⟨by omega, by omega⟩ (ws' := fun q2 => [(q2, zII G (St_n σ (St_ea σ j)) (fun _ => none))]) (fun _ => rfl) dX3_columns_8 (fun q2 H3 hq0q2 hq1q2 hP hD hS hF => ?_)
  refine lv_astore (lv' := [(4, .ref q2), (3, .int (iI ((St_n σ (St_ea σ j) : Nat) : Int))), (0, .ref (μ (0, 0, 0))), (1, .int (iI ((j : Nat) : Int))), (2, .int (iI ((b : Nat) : Int)))]) hx hb dX3_columns_11 hl (by decide) rfl (fun ls hl => ?_)
  refine lv_iconst (v := iI 0) hx hb dX3_columns_13 rfl ?_
  refine lv_istore (lv' := [(5, .int (iI 0)), (4, .ref q2), (3, .int (iI ((St_n σ (St_ea σ j) : Nat) : Int))), (0, .ref (μ (0, 0, 0))), (1, .int (iI ((j : Nat) : Int))), (2, .int (iI ((b : Nat) : Int)))]) hx hb dX3_columns_14 hl (by decide) rfl (fun ls hl => ?_)
  have hP : va_P G.1 zCl ([(q2, zII G (St_n σ (St_ea σ j)) (fun _ => none))] ++ (zRows G (St_n σ (St_ea σ j)) 0 (fun _ => 0) (fun _ _ => 0) ++ [])) H3 := hP
  have hD : va_D (zA M0 H0) ([(q2, zII G (St_n σ (St_ea σ j)) (fun _ => none))] ++ (zRows G (St_n σ (St_ea σ j)) 0 (fun _ => 0) (fun _ _ => 0) ++ [])) := hD
  have lp4 : ∀ (dlp4 : Nat) (c : Nat) (f : Nat → Option Nat) (ro : Nat → Nat) (F : Nat → Nat → Int), St_n σ (St_ea σ j) - c = dlp4 → (c ≤ St_n σ (St_ea σ j)) → (∀ i, i < c → f i = some (ro i)) → (∀ c9 i9, c9 < c → i9 < St_n σ (St_ea σ j) → F c9 i9 = (mxV (St_p σ) (St_ev σ j) (St_sg σ (St_ea σ j)) b) i9 c9) → ∀ (H5 : Heap) (locs : List Loc) (ls : Array Slot), va_P G.1 zCl ([(q2, zII G (St_n σ (St_ea σ j)) f)] ++ (zRows G (St_n σ (St_ea σ j)) c ro F ++ [])) H5 → va_D (zA M0 H0) ([(q2, zII G (St_n σ (St_ea σ j)) f)] ++ (zRows G (St_n σ (St_ea σ j)) c ro F ++ [])) → va_S (zA M0 H0) H0 H5 locs → lv_has ls 7 [(5, .int (iI ((c : Nat) : Int))), (4, .ref q2), (3, .int (iI ((St_n σ (St_ea σ j) : Nat) : Int))), (0, .ref (μ (0, 0, 0))), (1, .int (iI ((j : Nat) : Int))), (2, .int (iI ((b : Nat) : Int)))] → W pp l ee rm_m_X3_columns ss mm args below meth cd H5 locs (1 + 2 * c) (16 + 32 * c) Q (F0 mm 16 ls []) := by
    intro dlp4
    induction dlp4 using Nat.strongRecOn with
    | ind dlp4 ihlp4 =>
      intro c f ro F hdlp4 hc hgf hgF H5 locs ls  hP hD hS hl
      refine lv_iload hx hb dX3_columns_16 (lv_at hl 0 rfl) ?_
      refine lv_iload_n hx hb dX3_columns_18 rfl (lv_at hl 2 rfl) ?_
      refine z_cge (tgt := 81) hx hb dX3_columns_19 (by decide) (by omega) (fun c6 => ?_) (fun c6 => ?_)
      · have ec : c = St_n σ (St_ea σ j) := by omega
        refine lv_aload hx hb dX3_columns_81 (lv_at hl 1 rfl) ?_
        rw [ec] at hP hD
        exact z_aretA hC hrt hlk hQ hS ⟨zle (z := 40) rfl (by omega), zle (z := 600) rfl (by omega)⟩ ⟨_, rfl, ro, F, fun c9 i9 hc9 hi9 => hgF c9 i9 (by omega) hi9, NW_II (fun i hi => hgf i (by omega)) hP (zdn hD)⟩ dX3_columns_83
      · refine lv_iload_n hx hb dX3_columns_22 rfl (lv_at hl 2 rfl) ?_
        refine z_newi hC hP hD hS (N := St_n σ (St_ea σ j)) (c1 := (1 + 2 * c) + 1) (s1 := (16 + 32 * c) + 16) rfl (by omega) ⟨zle (z := 40) rfl (by omega), zle (z := 600) rfl (by omega)⟩ ⟨by omega, by omega⟩ (ws' := fun q7 => ([(q2, zII G (St_n σ (St_ea σ j)) f)] ++ (zRows G (St_n σ (St_ea σ j)) c ro F ++ [])) ++ [(q7, zI G (St_n σ (St_ea σ j)) (fun _ => 0))]) (fun _ => rfl) dX3_columns_23 (fun q7 H8 hq0q7 hq1q7 hP hD hS hF => ?_)
        have hP : va_P G.1 zCl ([(q2, zII G (St_n σ (St_ea σ j)) f), (q7, zI G (St_n σ (St_ea σ j)) (fun _ => 0))] ++ (zRows G (St_n σ (St_ea σ j)) c ro F ++ [])) H8 := zswapP hP
        have hD : va_D (zA M0 H0) ([(q2, zII G (St_n σ (St_ea σ j)) f), (q7, zI G (St_n σ (St_ea σ j)) (fun _ => 0))] ++ (zRows G (St_n σ (St_ea σ j)) c ro F ++ [])) := zswapD hD
        refine lv_astore (lv' := [(6, .ref q7), (5, .int (iI ((c : Nat) : Int))), (4, .ref q2), (3, .int (iI ((St_n σ (St_ea σ j) : Nat) : Int))), (0, .ref (μ (0, 0, 0))), (1, .int (iI ((j : Nat) : Int))), (2, .int (iI ((b : Nat) : Int)))]) hx hb dX3_columns_25 hl (by decide) rfl (fun ls hl => ?_)
        refine lv_aload hx hb dX3_columns_27 (lv_at hl 0 rfl) ?_
        refine lv_iload hx hb dX3_columns_29 (lv_at hl 1 rfl) ?_
        refine lv_iconst (v := iI 1) hx hb dX3_columns_31 rfl ?_
        refine z_iast hC hP hD hS 1 (k := c) rfl rfl (by omega) (ws' := [(q2, zII G (St_n σ (St_ea σ j)) f), (q7, zI G (St_n σ (St_ea σ j)) (va_up (fun _ => 0) c 1))] ++ (zRows G (St_n σ (St_ea σ j)) c ro F ++ [])) rfl dX3_columns_32 (fun H9 locs hP hD hS => ?_)
        have hP : va_P G.1 zCl ([(q2, zII G (St_n σ (St_ea σ j)) f), (q7, zI G (St_n σ (St_ea σ j)) (eyeV c))] ++ (zRows G (St_n σ (St_ea σ j)) c ro F ++ [])) H9 := zcI hP 1 rfl (fun j9 _ => by unfold va_up eyeV; rfl)
        have hD : va_D (zA M0 H0) ([(q2, zII G (St_n σ (St_ea σ j)) f), (q7, zI G (St_n σ (St_ea σ j)) (eyeV c))] ++ (zRows G (St_n σ (St_ea σ j)) c ro F ++ [])) := hD.set (p := 1) rfl
        have hok9 : rw_ok (St_p σ) (St_n σ (St_ea σ j)) (eyeV c) := fun i9 _ => by unfold eyeV; split <;> omega
        refine lv_aload hx hb dX3_columns_33 (lv_at hl 2 rfl) ?_
        refine lv_iload hx hb dX3_columns_35 (lv_at hl 1 rfl) ?_
        refine lv_iload_n hx hb dX3_columns_37 rfl (lv_at hl 6 rfl) ?_
        refine z_zeq (tgt := 59) hx hb dX3_columns_38 (by decide) (by omega) (fun c10 => ?_) (fun c10 => ?_)
        · have eb : b = 0 := by omega
          refine lv_aload_n hx hb dX3_columns_59 rfl (lv_at hl 4 rfl) ?_
          refine lv_iload_n hx hb dX3_columns_60 rfl (lv_at hl 5 rfl) ?_
          have hH1 : HM G s0 μ σ th H9 := hh.ext0 hE (zS_F hS)
          refine z_go ((1 + 2 * c) + 1) ((16 + 32 * c) + 16) (z_runV (As := [.int (iI ((j : Nat) : Int))]) (rest := [.int (iI ((c : Nat) : Int)), .ref q2]) hC hml hl.1 (m_X3_home hE H9 (hO.ext0 (zS_F hS)) μ σ th j hH1 hj) (lw_V q1682 q1684 qs40 q67 q1685) rfl nd_X3_home rfl (z_rv hC (ci := 2) rfl hH1.2.2.1.1 rfl) rfl (Nat.le_of_ble_eq_true rfl) ⟨Nat.le_of_ble_eq_true rfl, Nat.le_of_ble_eq_true rfl⟩ ⟨zfit (k := 0) (z := 40) rfl rfl (by omega), zfit (k := 0) (z := 600) rfl rfl (by omega)⟩ dX3_columns_61) ⟨zad (k := 0) rfl (by omega), zad (k := 0) rfl (by omega)⟩ hS (fun _ z => z.elim) (fun r H11 locs hp hF hS1 => ?_)
          obtain ⟨_, rfl, rfl⟩ := hp
          have hP := zpk hP hF
          have hP : va_P G.1 zCl ([(q2, zII G (St_n σ (St_ea σ j)) f), (q7, zI G (St_n σ (St_ea σ j)) (eyeV c))] ++ (zRows G (St_n σ (St_ea σ j)) c ro F ++ [])) H11 := hP
          have hD : va_D (zA M0 H0) ([(q2, zII G (St_n σ (St_ea σ j)) f), (q7, zI G (St_n σ (St_ea σ j)) (eyeV c))] ++ (zRows G (St_n σ (St_ea σ j)) c ro F ++ [])) := hD
          have hS := hS1
          refine lv_aload hx hb dX3_columns_64 (lv_at hl 0 rfl) ?_
          refine lv_aload_n hx hb dX3_columns_66 rfl (lv_at hl 4 rfl) ?_
          refine lv_iload_n hx hb dX3_columns_67 rfl (lv_at hl 5 rfl) ?_
          have hH1 : HM G s0 μ σ th H11 := hh.ext0 hE (zS_F hS)
          refine z_go ((1 + 2 * c) + 1) ((16 + 32 * c) + 16) (z_runV (As := [.int (iI ((j : Nat) : Int))]) (rest := [.ref q7, .ref (μ (6, St_ea σ j, 0)), .int (iI ((c : Nat) : Int)), .ref q2]) hC hml hl.1 (m_X3_row hE H11 (hO.ext0 (zS_F hS)) μ σ th j hH1 hj) (lw_V q1654 q1656 qs36 q67 q1657) rfl nd_X3_row rfl (z_rv hC (ci := 2) rfl hH1.2.2.1.1 rfl) rfl (Nat.le_of_ble_eq_true rfl) ⟨Nat.le_of_ble_eq_true rfl, Nat.le_of_ble_eq_true rfl⟩ ⟨zfit (k := 0) (z := 40) rfl rfl (by omega), zfit (k := 0) (z := 600) rfl rfl (by omega)⟩ dX3_columns_68) ⟨zad (k := 0) rfl (by omega), zad (k := 0) rfl (by omega)⟩ hS (fun _ z => z.elim) (fun r H12 locs hp hF hS1 => ?_)
          obtain ⟨_, rfl, rfl⟩ := hp
          have hP := zpk hP hF
          have hP : va_P G.1 zCl ([(q2, zII G (St_n σ (St_ea σ j)) f), (q7, zI G (St_n σ (St_ea σ j)) (eyeV c))] ++ (zRows G (St_n σ (St_ea σ j)) c ro F ++ [])) H12 := hP
          have hD : va_D (zA M0 H0) ([(q2, zII G (St_n σ (St_ea σ j)) f), (q7, zI G (St_n σ (St_ea σ j)) (eyeV c))] ++ (zRows G (St_n σ (St_ea σ j)) c ro F ++ [])) := hD
          have hS := hS1
          have hH1 : HM G s0 μ σ th H12 := hh.ext0 hE (zS_F hS)
          have hRj := (hH1.el (j := j) (by omega)).2
          have hVj := hH1.row (j := j) (by omega)
          have hH1 : HM G s0 μ σ th H12 := hh.ext0 hE (zS_F hS)
          have hsz9 : H0.size ≤ H12.size := hS.1
          have hUSt_eaσj := hH1.al (k := St_ea σ j) heaj
          refine z_go (((1 + 2 * c) + 1) + 1) (((16 + 32 * c) + 16) + 16) (z_runV (As := [.ref q7, .ref (μ (14, j, 0))]) (rest := [.int (iI ((c : Nat) : Int)), .ref q2]) hC hml hl.1 (m_X6_times hE H12 (hO.ext0 (zS_F hS)) μ σ th (St_ea σ j) q7 (eyeV c) (μ (14, j, 0)) (St_ev σ j)  hH1 heaj (hP 1 _ rfl) hok9 hRj hVj ) (lw_V q1686 q1687 q1688 q82 q1689) rfl nd_X6_times rfl (z_rv hC (ci := 5) rfl hUSt_eaσj.1 rfl) rfl (Nat.le_of_ble_eq_true rfl) ⟨Nat.le_of_ble_eq_true rfl, Nat.le_of_ble_eq_true rfl⟩ ⟨zfit (k := 1) (z := 40) rfl rfl (by omega), zfit (k := 16) (z := 600) rfl rfl (by omega)⟩ dX3_columns_71) ⟨zad (k := 1) rfl (by omega), zad (k := 16) rfl (by omega)⟩ hS (fun _ z => z.elim) (fun r H14 locs hp hF hS1 => ?_)
          obtain ⟨qr13, rfl, hN⟩ := hp
          obtain ⟨hP, hD⟩ := zjn hP hD hS.1 hF hN
          have hP : va_P G.1 zCl ([(q2, zII G (St_n σ (St_ea σ j)) f), (q7, zI G (St_n σ (St_ea σ j)) (eyeV c)), (qr13, zI G (St_n σ (St_ea σ j)) (tmV (St_p σ) (St_n σ (St_ea σ j)) (St_sg σ (St_ea σ j)) (eyeV c) (St_ev σ j)))] ++ (zRows G (St_n σ (St_ea σ j)) c ro F ++ [])) H14 := zswapP (a := [(q2, zII G (St_n σ (St_ea σ j)) f), (q7, zI G (St_n σ (St_ea σ j)) (eyeV c))]) (T := (zRows G (St_n σ (St_ea σ j)) c ro F ++ [])) (b := [(qr13, zI G (St_n σ (St_ea σ j)) (tmV (St_p σ) (St_n σ (St_ea σ j)) (St_sg σ (St_ea σ j)) (eyeV c) (St_ev σ j)))]) hP
          have hD : va_D (zA M0 H0) ([(q2, zII G (St_n σ (St_ea σ j)) f), (q7, zI G (St_n σ (St_ea σ j)) (eyeV c)), (qr13, zI G (St_n σ (St_ea σ j)) (tmV (St_p σ) (St_n σ (St_ea σ j)) (St_sg σ (St_ea σ j)) (eyeV c) (St_ev σ j)))] ++ (zRows G (St_n σ (St_ea σ j)) c ro F ++ [])) := zswapD (a := [(q2, zII G (St_n σ (St_ea σ j)) f), (q7, zI G (St_n σ (St_ea σ j)) (eyeV c))]) (T := (zRows G (St_n σ (St_ea σ j)) c ro F ++ [])) (b := [(qr13, zI G (St_n σ (St_ea σ j)) (tmV (St_p σ) (St_n σ (St_ea σ j)) (St_sg σ (St_ea σ j)) (eyeV c) (St_ev σ j)))]) hD
          have hS := hS1
          refine z_aastII hC hP hD hS 0 (k := c) rfl (hP 2 _ rfl) rfl (by omega) (ws' := [(q2, zII G (St_n σ (St_ea σ j)) (va_up f c (some qr13))), (q7, zI G (St_n σ (St_ea σ j)) (eyeV c)), (qr13, zI G (St_n σ (St_ea σ j)) (tmV (St_p σ) (St_n σ (St_ea σ j)) (St_sg σ (St_ea σ j)) (eyeV c) (St_ev σ j)))] ++ (zRows G (St_n σ (St_ea σ j)) c ro F ++ [])) rfl dX3_columns_74 (fun H15 locs hP hD hS => ?_)
          have hP := zRpushP hP
          have hD := zRpushD hD
          have hP : va_P G.1 zCl ([(q2, zII G (St_n σ (St_ea σ j)) (va_up f c (some qr13)))] ++ (zRows G (St_n σ (St_ea σ j)) (c + 1) (fun jj => if jj = c then qr13 else ro jj) (fun jj => if jj = c then tmV (St_p σ) (St_n σ (St_ea σ j)) (St_sg σ (St_ea σ j)) (eyeV c) (St_ev σ j) else F jj) ++ [])) H15 := hP
          have hD : va_D (zA M0 H0) ([(q2, zII G (St_n σ (St_ea σ j)) (va_up f c (some qr13)))] ++ (zRows G (St_n σ (St_ea σ j)) (c + 1) (fun jj => if jj = c then qr13 else ro jj) (fun jj => if jj = c then tmV (St_p σ) (St_n σ (St_ea σ j)) (St_sg σ (St_ea σ j)) (eyeV c) (St_ev σ j) else F jj) ++ [])) := hD
          refine z_iinc (z := ((c + 1 : Nat) : Int)) (lv' := [(5, .int (iI ((c + 1 : Nat) : Int))), (6, .ref q7), (4, .ref q2), (3, .int (iI ((St_n σ (St_ea σ j) : Nat) : Int))), (0, .ref (μ (0, 0, 0))), (1, .int (iI ((j : Nat) : Int))), (2, .int (iI ((b : Nat) : Int)))]) hx hb dX3_columns_75 hl (k := 1) rfl (by omega) (by decide) rfl (fun ls hl => ?_)
          refine lv_goto (tgt := 16) hx hb dX3_columns_78 (by decide) ?_
          exact W.widen (by omega) (by omega) (ihlp4 (St_n σ (St_ea σ j) - (c + 1)) (by omega) (c + 1) (va_up f c (some qr13)) (fun jj => if jj = c then qr13 else ro jj) (fun jj => if jj = c then tmV (St_p σ) (St_n σ (St_ea σ j)) (St_sg σ (St_ea σ j)) (eyeV c) (St_ev σ j) else F jj) rfl (by omega) (fun i hi => by by_cases e : i = c; (subst e; rw [va_up_self, if_pos rfl]); (rw [va_up_ne _ _ e, if_neg e]; exact hgf i (by omega))) (fun c9 i9 hc9 hi9 => by by_cases e : c9 = c; (subst e; rw [if_pos rfl]; rw [eb]; exact tm_eyeL (by omega)); (rw [if_neg e]; exact hgF c9 i9 (by omega) hi9)) _ _ _  hP hD hS (lv_sub hl [0, 2, 3, 4, 5, 6] rfl))
        · have eb : b = 1 := by omega
          refine lv_aload_n hx hb dX3_columns_41 rfl (lv_at hl 4 rfl) ?_
          refine lv_iload_n hx hb dX3_columns_42 rfl (lv_at hl 5 rfl) ?_
          have hH1 : HM G s0 μ σ th H9 := hh.ext0 hE (zS_F hS)
          refine z_go ((1 + 2 * c) + 1) ((16 + 32 * c) + 16) (z_runV (As := [.int (iI ((j : Nat) : Int))]) (rest := [.int (iI ((c : Nat) : Int)), .ref q2]) hC hml hl.1 (m_X3_home hE H9 (hO.ext0 (zS_F hS)) μ σ th j hH1 hj) (lw_V q1682 q1684 qs40 q67 q1685) rfl nd_X3_home rfl (z_rv hC (ci := 2) rfl hH1.2.2.1.1 rfl) rfl (Nat.le_of_ble_eq_true rfl) ⟨Nat.le_of_ble_eq_true rfl, Nat.le_of_ble_eq_true rfl⟩ ⟨zfit (k := 0) (z := 40) rfl rfl (by omega), zfit (k := 0) (z := 600) rfl rfl (by omega)⟩ dX3_columns_43) ⟨zad (k := 0) rfl (by omega), zad (k := 0) rfl (by omega)⟩ hS (fun _ z => z.elim) (fun r H16 locs hp hF hS1 => ?_)
          obtain ⟨_, rfl, rfl⟩ := hp
          have hP := zpk hP hF
          have hP : va_P G.1 zCl ([(q2, zII G (St_n σ (St_ea σ j)) f), (q7, zI G (St_n σ (St_ea σ j)) (eyeV c))] ++ (zRows G (St_n σ (St_ea σ j)) c ro F ++ [])) H16 := hP
          have hD : va_D (zA M0 H0) ([(q2, zII G (St_n σ (St_ea σ j)) f), (q7, zI G (St_n σ (St_ea σ j)) (eyeV c))] ++ (zRows G (St_n σ (St_ea σ j)) c ro F ++ [])) := hD
          have hS := hS1
          refine lv_aload_n hx hb dX3_columns_46 rfl (lv_at hl 4 rfl) ?_
          refine lv_iload_n hx hb dX3_columns_47 rfl (lv_at hl 5 rfl) ?_
          have hH1 : HM G s0 μ σ th H16 := hh.ext0 hE (zS_F hS)
          refine z_go ((1 + 2 * c) + 1) ((16 + 32 * c) + 16) (z_runV (As := [.int (iI ((j : Nat) : Int))]) (rest := [.ref (μ (6, St_ea σ j, 0)), .int (iI ((c : Nat) : Int)), .ref q2]) hC hml hl.1 (m_X3_row hE H16 (hO.ext0 (zS_F hS)) μ σ th j hH1 hj) (lw_V q1654 q1656 qs36 q67 q1657) rfl nd_X3_row rfl (z_rv hC (ci := 2) rfl hH1.2.2.1.1 rfl) rfl (Nat.le_of_ble_eq_true rfl) ⟨Nat.le_of_ble_eq_true rfl, Nat.le_of_ble_eq_true rfl⟩ ⟨zfit (k := 0) (z := 40) rfl rfl (by omega), zfit (k := 0) (z := 600) rfl rfl (by omega)⟩ dX3_columns_48) ⟨zad (k := 0) rfl (by omega), zad (k := 0) rfl (by omega)⟩ hS (fun _ z => z.elim) (fun r H17 locs hp hF hS1 => ?_)
          obtain ⟨_, rfl, rfl⟩ := hp
          have hP := zpk hP hF
          have hP : va_P G.1 zCl ([(q2, zII G (St_n σ (St_ea σ j)) f), (q7, zI G (St_n σ (St_ea σ j)) (eyeV c))] ++ (zRows G (St_n σ (St_ea σ j)) c ro F ++ [])) H17 := hP
          have hD : va_D (zA M0 H0) ([(q2, zII G (St_n σ (St_ea σ j)) f), (q7, zI G (St_n σ (St_ea σ j)) (eyeV c))] ++ (zRows G (St_n σ (St_ea σ j)) c ro F ++ [])) := hD
          have hS := hS1
          have hH1 : HM G s0 μ σ th H17 := hh.ext0 hE (zS_F hS)
          have hRj := (hH1.el (j := j) (by omega)).2
          have hVj := hH1.row (j := j) (by omega)
          refine lv_aload hx hb dX3_columns_51 (lv_at hl 0 rfl) ?_
          have hH1 : HM G s0 μ σ th H17 := hh.ext0 hE (zS_F hS)
          have hsz9 : H0.size ≤ H17.size := hS.1
          have hUSt_eaσj := hH1.al (k := St_ea σ j) heaj
          refine z_go (((1 + 2 * c) + 1) + 1) (((16 + 32 * c) + 16) + 16) (z_runV (As := [.ref (μ (14, j, 0)), .ref q7]) (rest := [.int (iI ((c : Nat) : Int)), .ref q2]) hC hml hl.1 (m_X6_times hE H17 (hO.ext0 (zS_F hS)) μ σ th (St_ea σ j) (μ (14, j, 0)) (St_ev σ j) q7 (eyeV c)  hH1 heaj hRj hVj (hP 1 _ rfl) hok9 ) (lw_V q1686 q1687 q1688 q82 q1689) rfl nd_X6_times rfl (z_rv hC (ci := 5) rfl hUSt_eaσj.1 rfl) rfl (Nat.le_of_ble_eq_true rfl) ⟨Nat.le_of_ble_eq_true rfl, Nat.le_of_ble_eq_true rfl⟩ ⟨zfit (k := 1) (z := 40) rfl rfl (by omega), zfit (k := 16) (z := 600) rfl rfl (by omega)⟩ dX3_columns_53) ⟨zad (k := 1) rfl (by omega), zad (k := 16) rfl (by omega)⟩ hS (fun _ z => z.elim) (fun r H19 locs hp hF hS1 => ?_)
          obtain ⟨qr18, rfl, hN⟩ := hp
          obtain ⟨hP, hD⟩ := zjn hP hD hS.1 hF hN
          have hP : va_P G.1 zCl ([(q2, zII G (St_n σ (St_ea σ j)) f), (q7, zI G (St_n σ (St_ea σ j)) (eyeV c)), (qr18, zI G (St_n σ (St_ea σ j)) (tmV (St_p σ) (St_n σ (St_ea σ j)) (St_sg σ (St_ea σ j)) (St_ev σ j) (eyeV c)))] ++ (zRows G (St_n σ (St_ea σ j)) c ro F ++ [])) H19 := zswapP (a := [(q2, zII G (St_n σ (St_ea σ j)) f), (q7, zI G (St_n σ (St_ea σ j)) (eyeV c))]) (T := (zRows G (St_n σ (St_ea σ j)) c ro F ++ [])) (b := [(qr18, zI G (St_n σ (St_ea σ j)) (tmV (St_p σ) (St_n σ (St_ea σ j)) (St_sg σ (St_ea σ j)) (St_ev σ j) (eyeV c)))]) hP
          have hD : va_D (zA M0 H0) ([(q2, zII G (St_n σ (St_ea σ j)) f), (q7, zI G (St_n σ (St_ea σ j)) (eyeV c)), (qr18, zI G (St_n σ (St_ea σ j)) (tmV (St_p σ) (St_n σ (St_ea σ j)) (St_sg σ (St_ea σ j)) (St_ev σ j) (eyeV c)))] ++ (zRows G (St_n σ (St_ea σ j)) c ro F ++ [])) := zswapD (a := [(q2, zII G (St_n σ (St_ea σ j)) f), (q7, zI G (St_n σ (St_ea σ j)) (eyeV c))]) (T := (zRows G (St_n σ (St_ea σ j)) c ro F ++ [])) (b := [(qr18, zI G (St_n σ (St_ea σ j)) (tmV (St_p σ) (St_n σ (St_ea σ j)) (St_sg σ (St_ea σ j)) (St_ev σ j) (eyeV c)))]) hD
          have hS := hS1
          refine lv_goto (tgt := 74) hx hb dX3_columns_56 (by decide) ?_
          refine z_aastII hC hP hD hS 0 (k := c) rfl (hP 2 _ rfl) rfl (by omega) (ws' := [(q2, zII G (St_n σ (St_ea σ j)) (va_up f c (some qr18))), (q7, zI G (St_n σ (St_ea σ j)) (eyeV c)), (qr18, zI G (St_n σ (St_ea σ j)) (tmV (St_p σ) (St_n σ (St_ea σ j)) (St_sg σ (St_ea σ j)) (St_ev σ j) (eyeV c)))] ++ (zRows G (St_n σ (St_ea σ j)) c ro F ++ [])) rfl dX3_columns_74 (fun H20 locs hP hD hS => ?_)
          have hP := zRpushP hP
          have hD := zRpushD hD
          have hP : va_P G.1 zCl ([(q2, zII G (St_n σ (St_ea σ j)) (va_up f c (some qr18)))] ++ (zRows G (St_n σ (St_ea σ j)) (c + 1) (fun jj => if jj = c then qr18 else ro jj) (fun jj => if jj = c then tmV (St_p σ) (St_n σ (St_ea σ j)) (St_sg σ (St_ea σ j)) (St_ev σ j) (eyeV c) else F jj) ++ [])) H20 := hP
          have hD : va_D (zA M0 H0) ([(q2, zII G (St_n σ (St_ea σ j)) (va_up f c (some qr18)))] ++ (zRows G (St_n σ (St_ea σ j)) (c + 1) (fun jj => if jj = c then qr18 else ro jj) (fun jj => if jj = c then tmV (St_p σ) (St_n σ (St_ea σ j)) (St_sg σ (St_ea σ j)) (St_ev σ j) (eyeV c) else F jj) ++ [])) := hD
          refine z_iinc (z := ((c + 1 : Nat) : Int)) (lv' := [(5, .int (iI ((c + 1 : Nat) : Int))), (6, .ref q7), (4, .ref q2), (3, .int (iI ((St_n σ (St_ea σ j) : Nat) : Int))), (0, .ref (μ (0, 0, 0))), (1, .int (iI ((j : Nat) : Int))), (2, .int (iI ((b : Nat) : Int)))]) hx hb dX3_columns_75 hl (k := 1) rfl (by omega) (by decide) rfl (fun ls hl => ?_)
          refine lv_goto (tgt := 16) hx hb dX3_columns_78 (by decide) ?_
          exact W.widen (by omega) (by omega) (ihlp4 (St_n σ (St_ea σ j) - (c + 1)) (by omega) (c + 1) (va_up f c (some qr18)) (fun jj => if jj = c then qr18 else ro jj) (fun jj => if jj = c then tmV (St_p σ) (St_n σ (St_ea σ j)) (St_sg σ (St_ea σ j)) (St_ev σ j) (eyeV c) else F jj) rfl (by omega) (fun i hi => by by_cases e : i = c; (subst e; rw [va_up_self, if_pos rfl]); (rw [va_up_ne _ _ e, if_neg e]; exact hgf i (by omega))) (fun c9 i9 hc9 hi9 => by by_cases e : c9 = c; (subst e; rw [if_pos rfl]; rw [eb]; exact tm_eyeR (n := St_n σ (St_ea σ j)) (d := St_d σ (St_ea σ j)) rfl (by omega) hi9); (rw [if_neg e]; exact hgF c9 i9 (by omega) hi9)) _ _ _  hP hD hS (lv_sub hl [0, 2, 3, 4, 5, 6] rfl))
  exact W.widen (by omega) (by omega) (lp4 _ 0 (fun _ => none) (fun _ => 0) (fun _ _ => 0) rfl (Nat.zero_le _) (fun i hi => absurd hi (Nat.not_lt_zero i)) (fun i _ hi _ => absurd hi (Nat.not_lt_zero i)) _ _ _  hP hD hS hl)

