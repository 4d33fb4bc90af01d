/-! THE CLASS: signs, what an algebra is asked -/
set_option maxRecDepth 100000

def sgD (dv : Nat → Int) : Nat → Nat → Nat → Int
  | 0, _, _ => 1
  | r + 1, i, j =>
    if i &&& 2 ^ r = 0 ∧ j &&& 2 ^ r = 0 then sgD dv r (i &&& (2 ^ r - 1)) (j &&& (2 ^ r - 1))
    else if i &&& 2 ^ r = 0 then sgD dv r (j &&& (2 ^ r - 1)) (i &&& (2 ^ r - 1))
    else if j &&& 2 ^ r = 0 then sgD dv r (i &&& (2 ^ r - 1)) (j &&& (2 ^ r - 1)) * trn 0 (j &&& (2 ^ r - 1))
    else dv r * sgD dv r (j &&& (2 ^ r - 1)) (i &&& (2 ^ r - 1)) * trn 0 (j &&& (2 ^ r - 1))
theorem sgD_1 {dv : Nat → Int} {r h i j : Nat} (hh : h = 2 ^ r) (c1 : i &&& h = 0) (c2 : j &&& h = 0) : sgD dv r (i &&& (h - 1)) (j &&& (h - 1)) = sgD dv (r + 1) i j := by
  subst hh; simp only [sgD]; rw [if_pos ⟨c1, c2⟩]
theorem sgD_2 {dv : Nat → Int} {r h i j : Nat} (hh : h = 2 ^ r) (c1 : i &&& h = 0) (c2 : j &&& h ≠ 0) : sgD dv r (j &&& (h - 1)) (i &&& (h - 1)) = sgD dv (r + 1) i j := by
  subst hh; simp only [sgD]; rw [if_neg (fun z => c2 z.2), if_pos c1]
theorem sgD_3 {dv : Nat → Int} {r h i j : Nat} (hh : h = 2 ^ r) (c1 : i &&& h ≠ 0) (c2 : j &&& h = 0) : sgD dv r (i &&& (h - 1)) (j &&& (h - 1)) * trn 0 (j &&& (h - 1)) = sgD dv (r + 1) i j := by
  subst hh; simp only [sgD]; rw [if_neg (fun z => c1 z.1), if_neg c1, if_pos c2]
theorem sgD_4 {dv : Nat → Int} {r h i j : Nat} (hh : h = 2 ^ r) (c1 : i &&& h ≠ 0) (c2 : j &&& h ≠ 0) : dv r * sgD dv r (j &&& (h - 1)) (i &&& (h - 1)) * trn 0 (j &&& (h - 1)) = sgD dv (r + 1) i j := by
  subst hh; simp only [sgD]; rw [if_neg (fun z => c1 z.1), if_neg c1, if_neg c2]
def sgB (dv : Nat → Int) : Nat → Nat → Nat → Int
  | 0, _, _ => 1
  | k + 1, i, j => if i / 2 ^ k &&& 1 = 0 then sgB dv k i j else (if bitc (j &&& (2 ^ k - 1)) % 2 = 1 then -(sgB dv k i j) else sgB dv k i j) * (if j / 2 ^ k &&& 1 = 1 then dv k else 1)
theorem sgB_0 {dv : Nat → Int} {k i j : Nat} (c1 : i / 2 ^ k &&& 1 = 0) : sgB dv (k + 1) i j = sgB dv k i j := by simp only [sgB]; rw [if_pos c1]
theorem sgB_1 {dv : Nat → Int} {k i j : Nat} (c1 : i / 2 ^ k &&& 1 ≠ 0) (c2 : bitc (j &&& (2 ^ k - 1)) % 2 = 1) (c3 : j / 2 ^ k &&& 1 = 1) : sgB dv (k + 1) i j = -(sgB dv k i j) * dv k := by simp only [sgB]; rw [if_neg c1, if_pos c2, if_pos c3]
theorem sgB_2 {dv : Nat → Int} {k i j : Nat} (c1 : i / 2 ^ k &&& 1 ≠ 0) (c2 : bitc (j &&& (2 ^ k - 1)) % 2 = 1) (c3 : j / 2 ^ k &&& 1 ≠ 1) : sgB dv (k + 1) i j = -(sgB dv k i j) := by simp only [sgB]; rw [if_neg c1, if_pos c2, if_neg c3, Int.mul_one]
theorem sgB_3 {dv : Nat → Int} {k i j : Nat} (c1 : i / 2 ^ k &&& 1 ≠ 0) (c2 : bitc (j &&& (2 ^ k - 1)) % 2 ≠ 1) (c3 : j / 2 ^ k &&& 1 = 1) : sgB dv (k + 1) i j = sgB dv k i j * dv k := by simp only [sgB]; rw [if_neg c1, if_neg c2, if_pos c3]
theorem sgB_4 {dv : Nat → Int} {k i j : Nat} (c1 : i / 2 ^ k &&& 1 ≠ 0) (c2 : bitc (j &&& (2 ^ k - 1)) % 2 ≠ 1) (c3 : j / 2 ^ k &&& 1 ≠ 1) : sgB dv (k + 1) i j = sgB dv k i j := by simp only [sgB]; rw [if_neg c1, if_neg c2, if_neg c3, Int.mul_one]
def sgK (kd : Nat) (dv : Nat → Int) (d i j : Nat) : Int := if kd = 0 then sgD dv d i j else sgB dv d i j
theorem bnd6 {a d : Int} {K : Int} (ha : -K ≤ a ∧ a ≤ K) (hd : -6 ≤ d ∧ d ≤ 6) : -(6 * K) ≤ a * d ∧ a * d ≤ 6 * K := by
  rcases (show d = -6 ∨ d = -5 ∨ d = -4 ∨ d = -3 ∨ d = -2 ∨ d = -1 ∨ d = 0 ∨ d = 1 ∨ d = 2 ∨ d = 3 ∨ d = 4 ∨ d = 5 ∨ d = 6 by omega) with rfl | rfl | rfl | rfl | rfl | rfl | rfl | rfl | rfl | rfl | rfl | rfl | rfl <;> omega
theorem sgD_in {dv : Nat → Int} : ∀ (r i j : Nat), (∀ k, k < r → 0 < dv k ∧ dv k < 7) → -(6 ^ r) ≤ sgD dv r i j ∧ sgD dv r i j ≤ 6 ^ r
  | 0, _, _, _ => by simp [sgD]
  | r + 1, i, j, h => by
    have h1 := sgD_in r (i &&& (2 ^ r - 1)) (j &&& (2 ^ r - 1)) (fun k hk => h k (by omega))
    have h2 := sgD_in r (j &&& (2 ^ r - 1)) (i &&& (2 ^ r - 1)) (fun k hk => h k (by omega))
    have h3 := h r (by omega)
    have hp : (1 : Int) ≤ 6 ^ r := Int.pow_pos (by decide)
    have e6 : (6 : Int) ^ (r + 1) = 6 * 6 ^ r := by rw [Int.pow_succ, Int.mul_comm]
    rw [e6]
    simp only [sgD]
    split
    · omega
    · split
      · omega
      · have ht := trn_in 0 (j &&& (2 ^ r - 1))
        split
        · rcases ht with ht | ht <;> rw [ht] <;> omega
        · have h4 := bnd6 h2 (d := dv r) (by omega)
          rw [Int.mul_comm (dv r)]
          rcases ht with ht | ht <;> rw [ht] <;> omega
theorem sgB_in {dv : Nat → Int} : ∀ (r i j : Nat), (∀ k, k < r → 0 < dv k ∧ dv k < 7) → -(6 ^ r) ≤ sgB dv r i j ∧ sgB dv r i j ≤ 6 ^ r
  | 0, _, _, _ => by simp [sgB]
  | r + 1, i, j, h => by
    have h1 := sgB_in r i j (fun k hk => h k (by omega))
    have h3 := h r (by omega)
    have hp : (1 : Int) ≤ 6 ^ r := Int.pow_pos (by decide)
    have e6 : (6 : Int) ^ (r + 1) = 6 * 6 ^ r := by rw [Int.pow_succ, Int.mul_comm]
    rw [e6]
    simp only [sgB]
    split
    · omega
    · refine bnd6 ?_ ?_
      · split <;> omega
      · split <;> omega
theorem sgK_in {dv : Nat → Int} (kd : Nat) {d : Nat} (i j : Nat) (hd : d ≤ 4) (h : ∀ k, k < d → 0 < dv k ∧ dv k < 7) : -1296 ≤ sgK kd dv d i j ∧ sgK kd dv d i j ≤ 1296 := by
  have hp : (6 : Int) ^ d ≤ 1296 := by rcases (show d = 0 ∨ d = 1 ∨ d = 2 ∨ d = 3 ∨ d = 4 by omega) with rfl | rfl | rfl | rfl | rfl <;> decide
  have h1 := sgD_in d i j h
  have h2 := sgB_in d i j h
  unfold sgK
  split <;> omega
def b2n (b : Bool) : Nat := if b then 1 else 0
theorem b2n_i (b : Bool) : b2i b = ((b2n b : Nat) : Int) := by cases b <;> rfl
theorem b2n_and (a b : Bool) : b2n a &&& b2n b = b2n (a && b) := by cases a <;> cases b <;> rfl
def cmV (sg : Nat → Nat → Int) (i : Nat) : Nat → Bool
  | 0 => true
  | j + 1 => cmV sg i j && sg i j == sg j i
def ceV (sg : Nat → Nat → Int) (n : Nat) : Nat → Nat
  | 0 => 0
  | i + 1 => if cmV sg i n then ceV sg n i ||| 2 ^ i else ceV sg n i
theorem ceV_lt (sg : Nat → Nat → Int) (n : Nat) : ∀ i, ceV sg n i < 2 ^ i
  | 0 => Nat.zero_lt_one
  | i + 1 => by
    have h := ceV_lt sg n i
    have h2 : ceV sg n i < 2 ^ (i + 1) := by rw [Nat.pow_succ]; omega
    simp only [ceV]
    split
    · exact Nat.or_lt_two_pow h2 (by rw [Nat.pow_succ]; have := Nat.two_pow_pos i; omega)
    · exact h2
def gpV (sg : Nat → Nat → Int) (i j k : Nat) : Int := sg i j * sg (i ^^^ j) k - sg j k * sg i (j ^^^ k)
def kpV (p : Int) (sg : Nat → Nat → Int) (law i j k : Nat) : Bool :=
  if law = 0 then sg i j == sg j i
  else if law = 1 then gpV sg i j k % p == 0
  else if law = 3 then (gpV sg i j k + gpV sg k j i) % p == 0
  else (gpV sg i j k + gpV sg j i k) % p == 0 && (gpV sg i j k + gpV sg i k j) % p == 0
def orE (a b : Int) : Int := if a = -1 then b else a
def bkV (P : Nat → Nat → Nat → Bool) (i j : Nat) : Nat → Nat → Int
  | 0, _ => -1
  | f + 1, k => if P i j k then bkV P i j f (k + 1) else 256 * i + 16 * j + k
def bjV (P : Nat → Nat → Nat → Bool) (m i : Nat) : Nat → Nat → Int
  | 0, _ => -1
  | f + 1, j => orE (bkV P i j m 0) (bjV P m i f (j + 1))
def biV (P : Nat → Nat → Nat → Bool) (m n : Nat) : Nat → Nat → Int
  | 0, _ => -1
  | f + 1, i => orE (bjV P m i n 0) (biV P m n f (i + 1))
theorem orE_n (b : Int) : orE (-1) b = b := if_pos rfl
theorem orE_a (a b c : Int) : orE (orE a b) c = orE a (orE b c) := by
  by_cases h : a = -1
  · subst h; rw [orE_n, orE_n]
  · simp [orE, h]
theorem orE_y {a b : Int} (h : a ≠ -1) : orE a b = a := if_neg h
def brV (p : Int) (sg : Nat → Nat → Int) (n law : Nat) : Int := biV (kpV p sg law) (if law = 0 then 1 else n) n n 0
theorem biV_s {P : Nat → Nat → Nat → Bool} {m n i : Nat} (h : i < n) : biV P m n (n - i) i = orE (bjV P m i n 0) (biV P m n (n - (i + 1)) (i + 1)) := by
  rw [show n - i = (n - (i + 1)) + 1 by omega]; rfl
theorem bjV_s {P : Nat → Nat → Nat → Bool} {m n i j : Nat} (h : j < n) : bjV P m i (n - j) j = orE (bkV P i j m 0) (bjV P m i (n - (j + 1)) (j + 1)) := by
  rw [show n - j = (n - (j + 1)) + 1 by omega]; rfl
theorem bkV_s {P : Nat → Nat → Nat → Bool} {m i j k : Nat} (h : k < m) (hp : P i j k = true) : bkV P i j (m - k) k = bkV P i j (m - (k + 1)) (k + 1) := by
  rw [show m - k = (m - (k + 1)) + 1 by omega]; simp only [bkV]; rw [if_pos hp]
theorem bkV_f {P : Nat → Nat → Nat → Bool} {m i j k : Nat} (h : k < m) (hp : P i j k = false) : bkV P i j (m - k) k = 256 * i + 16 * j + k := by
  rw [show m - k = (m - (k + 1)) + 1 by omega]; simp only [bkV]; rw [if_neg (by rw [hp]; decide)]
def fmV (p : Int) (dv : Nat → Int) : Nat → Int → Int
  | 0, _ => 0
  | k + 1, r => dv k * (r % p) * (r % p) + fmV p dv k (r / p)
def rwV (p : Int) (d : Nat) (dv : Nat → Int) (number : Int) : Int := fst (fun row => fmV p dv d row % p == number) ((p ^ d).toNat - 1) 1
theorem pw_in {p : Int} (hp : pr357 p) : ∀ k, k ≤ 4 → 1 ≤ p ^ k ∧ p ^ k ≤ 2401 := by
  intro k hk
  rcases hp with rfl | rfl | rfl <;> rcases (show k = 0 ∨ k = 1 ∨ k = 2 ∨ k = 3 ∨ k = 4 by omega) with rfl | rfl | rfl | rfl | rfl <;> decide
theorem fmV_in {p : Int} {dv : Nat → Int} (hp : pr357 p) : ∀ (k : Nat) (r : Int), (∀ j, j < k → 0 < dv j ∧ dv j < p) → 0 ≤ fmV p dv k r ∧ fmV p dv k r ≤ 216 * k
  | 0, r, _ => by simp [fmV]
  | k + 1, r, h => by
    have h1 := fmV_in hp k (r / p) (fun j hj => h j (by omega))
    have h2 := h k (by omega)
    have h3 := zmul3 (a := dv k) (b := r % p) (c := r % p) ⟨by omega, h2.2⟩ (md_in hp r) (md_in hp r) (by rcases hp with rfl | rfl | rfl <;> decide)
    simp only [fmV]
    omega

abbrev rm_m_X10_sign_0 : Room := { frames := 0, cells := 0, slots := 0, locals := 0 }
set_option maxHeartbeats 4000000 in
theorem m_X10_sign_0 {l : Launch} {s0 : State} {G : zG} (hE : zE l s0 G) (H0 : Heap) (hO : zO s0 H0) (kd : Nat) (dl d : Nat) (dv : Nat → Int) (da : Nat) (dm : Int) (i j : Nat) (ekd : kd = 0) (hL : zLs G dl d (fun i => G.2 (1000 + ((dv i).toNat + 128))) da dm H0) (hdv : ∀ k, k < d → 0 < dv k ∧ dv k < 7) (ht : 0 ≤ d) (hij : i < 16 ∧ j < 16) : zMU l s0 yX10_sign cX10_sign 9 (some FieldType.int) rm_m_X10_sign_0 [.ref (G.2 (10 + kd)), .ref dl, .int (iI 0), .int (iI ((i : Nat) : Int)), .int (iI ((j : Nat) : Int))] H0 M0 (ri (fun y _ => y = sgD dv 0 i j)) := by
  refine z_metU hE (by decide +kernel) (Nat.le_of_ble_eq_true rfl) ?_
  intro pp ee ss mm args below meth cd Q ls hC hml hrt hlk hnm hH hQ hS hl
  have hx := hC.x
  have hb := hC.b
  have hl : lv_has ls 9 [(0, .ref (G.2 (10 + kd))), (1, .ref dl), (2, .int (iI 0)), (3, .int (iI ((i : Nat) : Int))), (4, .int (iI ((j : Nat) : Int)))] := hl
  have hP : va_P G.1 zCl [] H0 := va_nil
  have hD : va_D (zA M0 H0) [] := va_nilD
  refine lv_iload_n hx hb dX10_sign_0 rfl (lv_at hl 2 rfl) ?_
  refine z_zne (tgt := 6) hx hb dX10_sign_1 (by decide) (by omega) (fun c1 => ?_) (fun c1 => ?_)
  · exact absurd rfl c1
  · refine lv_iconst (v := iI 1) hx hb dX10_sign_4 rfl ?_
    exact z_iret hC hrt hlk hQ hS ⟨zle (z := 0) rfl (by omega), zle (z := 0) rfl (by omega)⟩ ⟨_, rfl, rfl⟩ dX10_sign_5

abbrev rm_m_X10_sign_1 : Room := { frames := 3, cells := 0, slots := 0, locals := 64 }
set_option maxHeartbeats 4000000 in
theorem m_X10_sign_1 {l : Launch} {s0 : State} {G : zG} (hE : zE l s0 G) (H0 : Heap) (hO : zO s0 H0) (kd : Nat) (dl d : Nat) (dv : Nat → Int) (da : Nat) (dm : Int) (i j : Nat) (ekd : kd = 0) (hL : zLs G dl d (fun i => G.2 (1000 + ((dv i).toNat + 128))) da dm H0) (hdv : ∀ k, k < d → 0 < dv k ∧ dv k < 7) (ht : 1 ≤ d) (hij : i < 16 ∧ j < 16) : zMU l s0 yX10_sign cX10_sign 9 (some FieldType.int) rm_m_X10_sign_1 [.ref (G.2 (10 + kd)), .ref dl, .int (iI 1), .int (iI ((i : Nat) : Int)), .int (iI ((j : Nat) : Int))] H0 M0 (ri (fun y _ => y = sgD dv 1 i j)) := by
  refine z_metU hE (by decide +kernel) (Nat.le_of_ble_eq_true rfl) ?_
  intro pp ee ss mm args below meth cd Q ls hC hml hrt hlk hnm hH hQ hS hl
  have hx := hC.x
  have hb := hC.b
  have hl : lv_has ls 9 [(0, .ref (G.2 (10 + kd))), (1, .ref dl), (2, .int (iI 1)), (3, .int (iI ((i : Nat) : Int))), (4, .int (iI ((j : Nat) : Int)))] := hl
  have hP : va_P G.1 zCl [] H0 := va_nil
  have hD : va_D (zA M0 H0) [] := va_nilD
  refine lv_iload_n hx hb dX10_sign_0 rfl (lv_at hl 2 rfl) ?_
  refine z_zne (tgt := 6) hx hb dX10_sign_1 (by decide) (by omega) (fun c1 => ?_) (fun c1 => ?_)
  · refine lv_iload_n hx hb dX10_sign_6 rfl (lv_at hl 2 rfl) ?_
    refine lv_iconst (v := iI 1) hx hb dX10_sign_7 rfl ?_
    refine z_sub hx hb (z := 1 - 1) dX10_sign_8 rfl ?_
    refine z_top (b := 0) (by decide) ?_
    refine lv_istore (lv' := [(5, .int (iI 0)), (0, .ref (G.2 (10 + kd))), (1, .ref dl), (2, .int (iI 1)), (3, .int (iI ((i : Nat) : Int))), (4, .int (iI ((j : Nat) : Int)))]) hx hb dX10_sign_9 hl (by decide) rfl (fun ls hl => ?_)
    refine lv_iconst (v := iI 1) hx hb dX10_sign_11 rfl ?_
    refine lv_iload hx hb dX10_sign_12 (lv_at hl 0 rfl) ?_
    refine z_shl hx hb (i := 1) (j := 0) (n := 1 * 2 ^ 0) dX10_sign_14 rfl rfl (by omega) rfl ?_
    refine z_top (b := 1) (by decide) ?_
    refine lv_istore (lv' := [(6, .int (iI 1)), (5, .int (iI 0)), (0, .ref (G.2 (10 + kd))), (1, .ref dl), (2, .int (iI 1)), (3, .int (iI ((i : Nat) : Int))), (4, .int (iI ((j : Nat) : Int)))]) hx hb dX10_sign_15 hl (by decide) rfl (fun ls hl => ?_)
    refine lv_iload_n hx hb dX10_sign_17 rfl (lv_at hl 5 rfl) ?_
    refine lv_iload hx hb dX10_sign_18 (lv_at hl 0 rfl) ?_
    refine lv_iconst (v := iI 1) hx hb dX10_sign_20 rfl ?_
    refine z_sub hx hb (z := 1 - 1) dX10_sign_21 rfl ?_
    refine z_top (b := 0) (by decide) ?_
    refine z_and hx hb (n := i &&& 0) dX10_sign_22 rfl rfl rfl ?_
    refine lv_istore (lv' := [(7, .int (iI ((i &&& 0 : Nat) : Int))), (6, .int (iI 1)), (5, .int (iI 0)), (0, .ref (G.2 (10 + kd))), (1, .ref dl), (2, .int (iI 1)), (3, .int (iI ((i : Nat) : Int))), (4, .int (iI ((j : Nat) : Int)))]) hx hb dX10_sign_23 hl (by decide) rfl (fun ls hl => ?_)
    refine lv_iload hx hb dX10_sign_25 (lv_at hl 7 rfl) ?_
    refine lv_iload hx hb dX10_sign_27 (lv_at hl 1 rfl) ?_
    refine lv_iconst (v := iI 1) hx hb dX10_sign_29 rfl ?_
    refine z_sub hx hb (z := 1 - 1) dX10_sign_30 rfl ?_
    refine z_top (b := 0) (by decide) ?_
    refine z_and hx hb (n := j &&& 0) dX10_sign_31 rfl rfl rfl ?_
    refine lv_istore (lv' := [(8, .int (iI ((j &&& 0 : Nat) : Int))), (7, .int (iI ((i &&& 0 : Nat) : Int))), (6, .int (iI 1)), (5, .int (iI 0)), (0, .ref (G.2 (10 + kd))), (1, .ref dl), (2, .int (iI 1)), (3, .int (iI ((i : Nat) : Int))), (4, .int (iI ((j : Nat) : Int)))]) hx hb dX10_sign_32 hl (by decide) rfl (fun ls hl => ?_)
    refine lv_iload_n hx hb dX10_sign_34 rfl (lv_at hl 7 rfl) ?_
    refine lv_iload hx hb dX10_sign_35 (lv_at hl 2 rfl) ?_
    refine z_and hx hb (n := i &&& 1) dX10_sign_37 rfl rfl rfl ?_
    have hia := Nat.and_le_right (n := i) (m := 1)
    have hja := Nat.and_le_right (n := j) (m := 1)
    refine z_zne (tgt := 61) hx hb dX10_sign_38 (by decide) (by omega) (fun ci => ?_) (fun ci => ?_)
    · refine lv_iload_n hx hb dX10_sign_61 rfl (lv_at hl 7 rfl) ?_
      refine lv_iload hx hb dX10_sign_62 (lv_at hl 2 rfl) ?_
      refine z_and hx hb (n := i &&& 1) dX10_sign_64 rfl rfl rfl ?_
      refine z_zne (tgt := 80) hx hb dX10_sign_65 (by decide) (by omega) (fun c1 => ?_) (fun c1 => ?_)
      · refine lv_iload hx hb dX10_sign_80 (lv_at hl 8 rfl) ?_
        refine lv_iload hx hb dX10_sign_82 (lv_at hl 2 rfl) ?_
        refine z_and hx hb (n := j &&& 1) dX10_sign_84 rfl rfl rfl ?_
        refine z_zne (tgt := 107) hx hb dX10_sign_85 (by decide) (by omega) (fun c2 => ?_) (fun c2 => ?_)
        · refine lv_aload_n hx hb dX10_sign_107 rfl (lv_at hl 5 rfl) ?_
          refine lv_iload hx hb dX10_sign_108 (lv_at hl 3 rfl) ?_
          refine z_go 0 0 (z_runV (As := [.int (iI 0)]) (rest := []) hC hml hl.1 (m_J2_get hE H0 (hO.ext0 (zS_F hS)) dl d _ da dm 0 (hL.ext0 (zS_F hS)) (by omega)) (lw_V q1115 q373 q374 q65 q375) rfl nd_J2_get rfl (z_rv hC (ci := 8) rfl (zo hS hL.1 id) rfl) rfl (Nat.le_of_ble_eq_true rfl) ⟨Nat.le_of_ble_eq_true rfl, Nat.le_of_ble_eq_true rfl⟩ ⟨zfit (k := 0) (z := 0) rfl rfl (by omega), zfit (k := 0) (z := 0) rfl rfl (by omega)⟩ dX10_sign_110) ⟨zad (k := 0) rfl (by omega), zad (k := 0) rfl (by omega)⟩ hS (fun _ z => z.elim) (fun r H3 locs hp hF hS1 => ?_)
          obtain ⟨_, rfl, rfl⟩ := hp
          have hP := zpk hP hF
          have hP : va_P G.1 zCl ([]) H3 := hP
          have hD : va_D (zA M0 H0) ([]) := hD
          have hS := hS1
          have hdk := hdv 0 (by omega)
          refine z_castC hC (hO.ext0 (zS_F hS)) (by omega) q1116 dX10_sign_113 ?_
          refine z_go 0 0 (z_runV (As := []) (rest := []) hC hml hl.1 (m_J19_intValue hE H3 (hO.ext0 (zS_F hS)) ((dv 0).toNat + 128) (by omega)) (lw_V q1117 q427 q428 q90 q429) rfl nd_J19_intValue rfl (z_cc hE hC.w (hO.ext0 (zS_F hS)) (by omega)) rfl (Nat.le_of_ble_eq_true rfl) ⟨Nat.le_of_ble_eq_true rfl, Nat.le_of_ble_eq_true rfl⟩ ⟨zfit (k := 0) (z := 0) rfl rfl (by omega), zfit (k := 0) (z := 0) rfl rfl (by omega)⟩ dX10_sign_116) ⟨zad (k := 0) rfl (by omega), zad (k := 0) rfl (by omega)⟩ hS (fun _ z => z.elim) (fun r H4 locs hp hF hS1 => ?_)
          obtain ⟨_, rfl, rfl⟩ := hp
          have hP := zpk hP hF
          have hP : va_P G.1 zCl ([]) H4 := hP
          have hD : va_D (zA M0 H0) ([]) := hD
          have hS := hS1
          refine z_top (b := dv 0) (by omega) ?_
          refine lv_aload_n hx hb dX10_sign_119 rfl (lv_at hl 4 rfl) ?_
          refine lv_aload_n hx hb dX10_sign_120 rfl (lv_at hl 5 rfl) ?_
          refine lv_iload hx hb dX10_sign_121 (lv_at hl 3 rfl) ?_
          refine lv_iload hx hb dX10_sign_123 (lv_at hl 0 rfl) ?_
          refine lv_iload hx hb dX10_sign_125 (lv_at hl 1 rfl) ?_
          refine z_go 0 0 (z_runVU (n := 4) (As := [.ref dl, .int (iI 0), .int (iI ((j &&& 0 : Nat) : Int)), .int (iI ((i &&& 0 : Nat) : Int))]) (rest := [.int (iI (dv 0))]) hC hml hl.1 (m_X10_sign_0 hE H4 (hO.ext0 (zS_F hS)) kd dl d dv da dm (j &&& 0) (i &&& 0) ekd (hL.ext0 (zS_F hS)) hdv (by omega) ⟨by have := Nat.and_le_right (n := j) (m := 0); omega, by have := Nat.and_le_right (n := i) (m := 0); omega⟩) q1112 q1113 q1958 q1111 nd_X10_sign rfl (z_k1 hE hC.w (hO.ext0 (zS_F hS)) ekd) rfl (Nat.le_of_ble_eq_true rfl) ⟨Nat.le_of_ble_eq_true rfl, Nat.le_of_ble_eq_true rfl⟩ ⟨zfit (k := 0) (z := 0) rfl rfl (by omega), zfit (k := 0) (z := 0) rfl rfl (by omega)⟩ dX10_sign_127) ⟨zad (k := 0) rfl (by omega), zad (k := 0) rfl (by omega)⟩ hS (fun _ z => z.elim) (fun r H5 locs hp hF hS1 => ?_)
          obtain ⟨_, rfl, rfl⟩ := hp
          have hP := zpk hP hF
          have hP : va_P G.1 zCl ([]) H5 := hP
          have hD : va_D (zA M0 H0) ([]) := hD
          have hS := hS1
          refine z_mul hx hb (z := (dv 0) * (sgD dv 0 (j &&& 0) (i &&& 0))) dX10_sign_130 rfl ?_
          refine lv_aload_n hx hb dX10_sign_131 rfl (lv_at hl 4 rfl) ?_
          refine lv_iload hx hb dX10_sign_132 (lv_at hl 0 rfl) ?_
          refine z_go 0 0 (z_runVU (n := 1) (As := [.int (iI ((j &&& 0 : Nat) : Int))]) (rest := [.int (iI ((dv 0) * (sgD dv 0 (j &&& 0) (i &&& 0))))]) hC hml hl.1 (m_X10_turned hE H5 (hO.ext0 (zS_F hS)) _ (j &&& 0) (by have := Nat.and_le_right (n := j) (m := 0); omega)) q339 q1114 q1959 q338 nd_X10_turned rfl (z_k1 hE hC.w (hO.ext0 (zS_F hS)) ekd) rfl (Nat.le_of_ble_eq_true rfl) ⟨Nat.le_of_ble_eq_true rfl, Nat.le_of_ble_eq_true rfl⟩ ⟨zfit (k := 0) (z := 0) rfl rfl (by omega), zfit (k := 0) (z := 0) rfl rfl (by omega)⟩ dX10_sign_134) ⟨zad (k := 0) rfl (by omega), zad (k := 0) rfl (by omega)⟩ hS (fun _ z => z.elim) (fun r H6 locs hp hF hS1 => ?_)
          obtain ⟨_, rfl, rfl⟩ := hp
          have hP := zpk hP hF
          have hP : va_P G.1 zCl ([]) H6 := hP
          have hD : va_D (zA M0 H0) ([]) := hD
          have hS := hS1
          refine z_mul hx hb (z := ((dv 0) * (sgD dv 0 (j &&& 0) (i &&& 0))) * (trn 0 (j &&& 0))) dX10_sign_137 rfl ?_
          exact z_iret hC hrt hlk hQ hS ⟨zle (z := 0) rfl (by omega), zle (z := 0) rfl (by omega)⟩ ⟨_, rfl, sgD_4 (h := 1) rfl (by omega) (by omega)⟩ dX10_sign_138
        · refine lv_aload_n hx hb dX10_sign_88 rfl (lv_at hl 4 rfl) ?_
          refine lv_aload_n hx hb dX10_sign_89 rfl (lv_at hl 5 rfl) ?_
          refine lv_iload hx hb dX10_sign_90 (lv_at hl 3 rfl) ?_
          refine lv_iload hx hb dX10_sign_92 (lv_at hl 1 rfl) ?_
          refine lv_iload hx hb dX10_sign_94 (lv_at hl 0 rfl) ?_
          refine z_go 0 0 (z_runVU (n := 4) (As := [.ref dl, .int (iI 0), .int (iI ((i &&& 0 : Nat) : Int)), .int (iI ((j &&& 0 : Nat) : Int))]) (rest := []) hC hml hl.1 (m_X10_sign_0 hE H0 (hO.ext0 (zS_F hS)) kd dl d dv da dm (i &&& 0) (j &&& 0) ekd (hL.ext0 (zS_F hS)) hdv (by omega) ⟨by have := Nat.and_le_right (n := i) (m := 0); omega, by have := Nat.and_le_right (n := j) (m := 0); omega⟩) q1112 q1113 q1958 q1111 nd_X10_sign rfl (z_k1 hE hC.w (hO.ext0 (zS_F hS)) ekd) rfl (Nat.le_of_ble_eq_true rfl) ⟨Nat.le_of_ble_eq_true rfl, Nat.le_of_ble_eq_true rfl⟩ ⟨zfit (k := 0) (z := 0) rfl rfl (by omega), zfit (k := 0) (z := 0) rfl rfl (by omega)⟩ dX10_sign_96) ⟨zad (k := 0) rfl (by omega), zad (k := 0) rfl (by omega)⟩ hS (fun _ z => z.elim) (fun r H7 locs hp hF hS1 => ?_)
          obtain ⟨_, rfl, rfl⟩ := hp
          have hP := zpk hP hF
          have hP : va_P G.1 zCl ([]) H7 := hP
          have hD : va_D (zA M0 H0) ([]) := hD
          have hS := hS1
          refine lv_aload_n hx hb dX10_sign_99 rfl (lv_at hl 4 rfl) ?_
          refine lv_iload hx hb dX10_sign_100 (lv_at hl 0 rfl) ?_
          refine z_go 0 0 (z_runVU (n := 1) (As := [.int (iI ((j &&& 0 : Nat) : Int))]) (rest := [.int (iI (sgD dv 0 (i &&& 0) (j &&& 0)))]) hC hml hl.1 (m_X10_turned hE H7 (hO.ext0 (zS_F hS)) _ (j &&& 0) (by have := Nat.and_le_right (n := j) (m := 0); omega)) q339 q1114 q1959 q338 nd_X10_turned rfl (z_k1 hE hC.w (hO.ext0 (zS_F hS)) ekd) rfl (Nat.le_of_ble_eq_true rfl) ⟨Nat.le_of_ble_eq_true rfl, Nat.le_of_ble_eq_true rfl⟩ ⟨zfit (k := 0) (z := 0) rfl rfl (by omega), zfit (k := 0) (z := 0) rfl rfl (by omega)⟩ dX10_sign_102) ⟨zad (k := 0) rfl (by omega), zad (k := 0) rfl (by omega)⟩ hS (fun _ z => z.elim) (fun r H8 locs hp hF hS1 => ?_)
          obtain ⟨_, rfl, rfl⟩ := hp
          have hP := zpk hP hF
          have hP : va_P G.1 zCl ([]) H8 := hP
          have hD : va_D (zA M0 H0) ([]) := hD
          have hS := hS1
          refine z_mul hx hb (z := (sgD dv 0 (i &&& 0) (j &&& 0)) * (trn 0 (j &&& 0))) dX10_sign_105 rfl ?_
          exact z_iret hC hrt hlk hQ hS ⟨zle (z := 0) rfl (by omega), zle (z := 0) rfl (by omega)⟩ ⟨_, rfl, sgD_3 (h := 1) rfl (by omega) (by omega)⟩ dX10_sign_106
      · exact absurd (by assumption) ci
    · refine lv_iload hx hb dX10_sign_41 (lv_at hl 8 rfl) ?_
      refine lv_iload hx hb dX10_sign_43 (lv_at hl 2 rfl) ?_
      refine z_and hx hb (n := j &&& 1) dX10_sign_45 rfl rfl rfl ?_
      refine z_zne (tgt := 61) hx hb dX10_sign_46 (by decide) (by omega) (fun c9 => ?_) (fun c9 => ?_)
      · refine lv_iload_n hx hb dX10_sign_61 rfl (lv_at hl 7 rfl) ?_
        refine lv_iload hx hb dX10_sign_62 (lv_at hl 2 rfl) ?_
        refine z_and hx hb (n := i &&& 1) dX10_sign_64 rfl rfl rfl ?_
        refine z_zne (tgt := 80) hx hb dX10_sign_65 (by decide) (by omega) (fun c10 => ?_) (fun c10 => ?_)
        · exact absurd ci (by assumption)
        · refine lv_aload_n hx hb dX10_sign_68 rfl (lv_at hl 4 rfl) ?_
          refine lv_aload_n hx hb dX10_sign_69 rfl (lv_at hl 5 rfl) ?_
          refine lv_iload hx hb dX10_sign_70 (lv_at hl 3 rfl) ?_
          refine lv_iload hx hb dX10_sign_72 (lv_at hl 0 rfl) ?_
          refine lv_iload hx hb dX10_sign_74 (lv_at hl 1 rfl) ?_
          refine z_go 0 0 (z_runVU (n := 4) (As := [.ref dl, .int (iI 0), .int (iI ((j &&& 0 : Nat) : Int)), .int (iI ((i &&& 0 : Nat) : Int))]) (rest := []) hC hml hl.1 (m_X10_sign_0 hE H0 (hO.ext0 (zS_F hS)) kd dl d dv da dm (j &&& 0) (i &&& 0) ekd (hL.ext0 (zS_F hS)) hdv (by omega) ⟨by have := Nat.and_le_right (n := j) (m := 0); omega, by have := Nat.and_le_right (n := i) (m := 0); omega⟩) q1112 q1113 q1958 q1111 nd_X10_sign rfl (z_k1 hE hC.w (hO.ext0 (zS_F hS)) ekd) rfl (Nat.le_of_ble_eq_true rfl) ⟨Nat.le_of_ble_eq_true rfl, Nat.le_of_ble_eq_true rfl⟩ ⟨zfit (k := 0) (z := 0) rfl rfl (by omega), zfit (k := 0) (z := 0) rfl rfl (by omega)⟩ dX10_sign_76) ⟨zad (k := 0) rfl (by omega), zad (k := 0) rfl (by omega)⟩ hS (fun _ z => z.elim) (fun r H11 locs hp hF hS1 => ?_)
          obtain ⟨_, rfl, rfl⟩ := hp
          have hP := zpk hP hF
          have hP : va_P G.1 zCl ([]) H11 := hP
          have hD : va_D (zA M0 H0) ([]) := hD
          have hS := hS1
          exact z_iret hC hrt hlk hQ hS ⟨zle (z := 0) rfl (by omega), zle (z := 0) rfl (by omega)⟩ ⟨_, rfl, sgD_2 (h := 1) rfl (by omega) (by omega)⟩ dX10_sign_79
      · refine lv_aload_n hx hb dX10_sign_49 rfl (lv_at hl 4 rfl) ?_
        refine lv_aload_n hx hb dX10_sign_50 rfl (lv_at hl 5 rfl) ?_
        refine lv_iload hx hb dX10_sign_51 (lv_at hl 3 rfl) ?_
        refine lv_iload hx hb dX10_sign_53 (lv_at hl 1 rfl) ?_
        refine lv_iload hx hb dX10_sign_55 (lv_at hl 0 rfl) ?_
        refine z_go 0 0 (z_runVU (n := 4) (As := [.ref dl, .int (iI 0), .int (iI ((i &&& 0 : Nat) : Int)), .int (iI ((j &&& 0 : Nat) : Int))]) (rest := []) hC hml hl.1 (m_X10_sign_0 hE H0 (hO.ext0 (zS_F hS)) kd dl d dv da dm (i &&& 0) (j &&& 0) ekd (hL.ext0 (zS_F hS)) hdv (by omega) ⟨by have := Nat.and_le_right (n := i) (m := 0); omega, by have := Nat.and_le_right (n := j) (m := 0); omega⟩) q1112 q1113 q1958 q1111 nd_X10_sign rfl (z_k1 hE hC.w (hO.ext0 (zS_F hS)) ekd) rfl (Nat.le_of_ble_eq_true rfl) ⟨Nat.le_of_ble_eq_true rfl, Nat.le_of_ble_eq_true rfl⟩ ⟨zfit (k := 0) (z := 0) rfl rfl (by omega), zfit (k := 0) (z := 0) rfl rfl (by omega)⟩ dX10_sign_57) ⟨zad (k := 0) rfl (by omega), zad (k := 0) rfl (by omega)⟩ hS (fun _ z => z.elim) (fun r H12 locs hp hF hS1 => ?_)
        obtain ⟨_, rfl, rfl⟩ := hp
        have hP := zpk hP hF
        have hP : va_P G.1 zCl ([]) H12 := hP
        have hD : va_D (zA M0 H0) ([]) := hD
        have hS := hS1
        exact z_iret hC hrt hlk hQ hS ⟨zle (z := 0) rfl (by omega), zle (z := 0) rfl (by omega)⟩ ⟨_, rfl, sgD_1 (h := 1) rfl (by omega) (by omega)⟩ dX10_sign_60
  · exact absurd c1 (by decide)

abbrev rm_m_X10_sign_2 : Room := { frames := 4, cells := 0, slots := 0, locals := 92 }
set_option maxHeartbeats 4000000 in
theorem m_X10_sign_2 {l : Launch} {s0 : State} {G : zG} (hE : zE l s0 G) (H0 : Heap) (hO : zO s0 H0) (kd : Nat) (dl d : Nat) (dv : Nat → Int) (da : Nat) (dm : Int) (i j : Nat) (ekd : kd = 0) (hL : zLs G dl d (fun i => G.2 (1000 + ((dv i).toNat + 128))) da dm H0) (hdv : ∀ k, k < d → 0 < dv k ∧ dv k < 7) (ht : 2 ≤ d) (hij : i < 16 ∧ j < 16) : zMU l s0 yX10_sign cX10_sign 9 (some FieldType.int) rm_m_X10_sign_2 [.ref (G.2 (10 + kd)), .ref dl, .int (iI 2), .int (iI ((i : Nat) : Int)), .int (iI ((j : Nat) : Int))] H0 M0 (ri (fun y _ => y = sgD dv 2 i j)) := by
  refine z_metU hE (by decide +kernel) (Nat.le_of_ble_eq_true rfl) ?_
  intro pp ee ss mm args below meth cd Q ls hC hml hrt hlk hnm hH hQ hS hl
  have hx := hC.x
  have hb := hC.b
  have hl : lv_has ls 9 [(0, .ref (G.2 (10 + kd))), (1, .ref dl), (2, .int (iI 2)), (3, .int (iI ((i : Nat) : Int))), (4, .int (iI ((j : Nat) : Int)))] := hl
  have hP : va_P G.1 zCl [] H0 := va_nil
  have hD : va_D (zA M0 H0) [] := va_nilD
  refine lv_iload_n hx hb dX10_sign_0 rfl (lv_at hl 2 rfl) ?_
  refine z_zne (tgt := 6) hx hb dX10_sign_1 (by decide) (by omega) (fun c1 => ?_) (fun c1 => ?_)
  · refine lv_iload_n hx hb dX10_sign_6 rfl (lv_at hl 2 rfl) ?_
    refine lv_iconst (v := iI 1) hx hb dX10_sign_7 rfl ?_
    refine z_sub hx hb (z := 2 - 1) dX10_sign_8 rfl ?_
    refine z_top (b := 1) (by decide) ?_
    refine lv_istore (lv' := [(5, .int (iI 1)), (0, .ref (G.2 (10 + kd))), (1, .ref dl), (2, .int (iI 2)), (3, .int (iI ((i : Nat) : Int))), (4, .int (iI ((j : Nat) : Int)))]) hx hb dX10_sign_9 hl (by decide) rfl (fun ls hl => ?_)
    refine lv_iconst (v := iI 1) hx hb dX10_sign_11 rfl ?_
    refine lv_iload hx hb dX10_sign_12 (lv_at hl 0 rfl) ?_
    refine z_shl hx hb (i := 1) (j := 1) (n := 1 * 2 ^ 1) dX10_sign_14 rfl rfl (by omega) rfl ?_
    refine z_top (b := 2) (by decide) ?_
    refine lv_istore (lv' := [(6, .int (iI 2)), (5, .int (iI 1)), (0, .ref (G.2 (10 + kd))), (1, .ref dl), (2, .int (iI 2)), (3, .int (iI ((i : Nat) : Int))), (4, .int (iI ((j : Nat) : Int)))]) hx hb dX10_sign_15 hl (by decide) rfl (fun ls hl => ?_)
    refine lv_iload_n hx hb dX10_sign_17 rfl (lv_at hl 5 rfl) ?_
    refine lv_iload hx hb dX10_sign_18 (lv_at hl 0 rfl) ?_
    refine lv_iconst (v := iI 1) hx hb dX10_sign_20 rfl ?_
    refine z_sub hx hb (z := 2 - 1) dX10_sign_21 rfl ?_
    refine z_top (b := 1) (by decide) ?_
    refine z_and hx hb (n := i &&& 1) dX10_sign_22 rfl rfl rfl ?_
    refine lv_istore (lv' := [(7, .int (iI ((i &&& 1 : Nat) : Int))), (6, .int (iI 2)), (5, .int (iI 1)), (0, .ref (G.2 (10 + kd))), (1, .ref dl), (2, .int (iI 2)), (3, .int (iI ((i : Nat) : Int))), (4, .int (iI ((j : Nat) : Int)))]) hx hb dX10_sign_23 hl (by decide) rfl (fun ls hl => ?_)
    refine lv_iload hx hb dX10_sign_25 (lv_at hl 7 rfl) ?_
    refine lv_iload hx hb dX10_sign_27 (lv_at hl 1 rfl) ?_
    refine lv_iconst (v := iI 1) hx hb dX10_sign_29 rfl ?_
    refine z_sub hx hb (z := 2 - 1) dX10_sign_30 rfl ?_
    refine z_top (b := 1) (by decide) ?_
    refine z_and hx hb (n := j &&& 1) dX10_sign_31 rfl rfl rfl ?_
    refine lv_istore (lv' := [(8, .int (iI ((j &&& 1 : Nat) : Int))), (7, .int (iI ((i &&& 1 : Nat) : Int))), (6, .int (iI 2)), (5, .int (iI 1)), (0, .ref (G.2 (10 + kd))), (1, .ref dl), (2, .int (iI 2)), (3, .int (iI ((i : Nat) : Int))), (4, .int (iI ((j : Nat) : Int)))]) hx hb dX10_sign_32 hl (by decide) rfl (fun ls hl => ?_)
    refine lv_iload_n hx hb dX10_sign_34 rfl (lv_at hl 7 rfl) ?_
    refine lv_iload hx hb dX10_sign_35 (lv_at hl 2 rfl) ?_
    refine z_and hx hb (n := i &&& 2) dX10_sign_37 rfl rfl rfl ?_
    have hia := Nat.and_le_right (n := i) (m := 2)
    have hja := Nat.and_le_right (n := j) (m := 2)
    refine z_zne (tgt := 61) hx hb dX10_sign_38 (by decide) (by omega) (fun ci => ?_) (fun ci => ?_)
    · refine lv_iload_n hx hb dX10_sign_61 rfl (lv_at hl 7 rfl) ?_
      refine lv_iload hx hb dX10_sign_62 (lv_at hl 2 rfl) ?_
      refine z_and hx hb (n := i &&& 2) dX10_sign_64 rfl rfl rfl ?_
      refine z_zne (tgt := 80) hx hb dX10_sign_65 (by decide) (by omega) (fun c1 => ?_) (fun c1 => ?_)
      · refine lv_iload hx hb dX10_sign_80 (lv_at hl 8 rfl) ?_
        refine lv_iload hx hb dX10_sign_82 (lv_at hl 2 rfl) ?_
        refine z_and hx hb (n := j &&& 2) dX10_sign_84 rfl rfl rfl ?_
        refine z_zne (tgt := 107) hx hb dX10_sign_85 (by decide) (by omega) (fun c2 => ?_) (fun c2 => ?_)
        · refine lv_aload_n hx hb dX10_sign_107 rfl (lv_at hl 5 rfl) ?_
          refine lv_iload hx hb dX10_sign_108 (lv_at hl 3 rfl) ?_
          refine z_go 0 0 (z_runV (As := [.int (iI 1)]) (rest := []) hC hml hl.1 (m_J2_get hE H0 (hO.ext0 (zS_F hS)) dl d _ da dm 1 (hL.ext0 (zS_F hS)) (by omega)) (lw_V q1115 q373 q374 q65 q375) rfl nd_J2_get rfl (z_rv hC (ci := 8) rfl (zo hS hL.1 id) rfl) rfl (Nat.le_of_ble_eq_true rfl) ⟨Nat.le_of_ble_eq_true rfl, Nat.le_of_ble_eq_true rfl⟩ ⟨zfit (k := 0) (z := 0) rfl rfl (by omega), zfit (k := 0) (z := 0) rfl rfl (by omega)⟩ dX10_sign_110) ⟨zad (k := 0) rfl (by omega), zad (k := 0) rfl (by omega)⟩ hS (fun _ z => z.elim) (fun r H3 locs hp hF hS1 => ?_)
          obtain ⟨_, rfl, rfl⟩ := hp
          have hP := zpk hP hF
          have hP : va_P G.1 zCl ([]) H3 := hP
          have hD : va_D (zA M0 H0) ([]) := hD
          have hS := hS1
          have hdk := hdv 1 (by omega)
          refine z_castC hC (hO.ext0 (zS_F hS)) (by omega) q1116 dX10_sign_113 ?_
          refine z_go 0 0 (z_runV (As := []) (rest := []) hC hml hl.1 (m_J19_intValue hE H3 (hO.ext0 (zS_F hS)) ((dv 1).toNat + 128) (by omega)) (lw_V q1117 q427 q428 q90 q429) rfl nd_J19_intValue rfl (z_cc hE hC.w (hO.ext0 (zS_F hS)) (by omega)) rfl (Nat.le_of_ble_eq_true rfl) ⟨Nat.le_of_ble_eq_true rfl, Nat.le_of_ble_eq_true rfl⟩ ⟨zfit (k := 0) (z := 0) rfl rfl (by omega), zfit (k := 0) (z := 0) rfl rfl (by omega)⟩ dX10_sign_116) ⟨zad (k := 0) rfl (by omega), zad (k := 0) rfl (by omega)⟩ hS (fun _ z => z.elim) (fun r H4 locs hp hF hS1 => ?_)
          obtain ⟨_, rfl, rfl⟩ := hp
          have hP := zpk hP hF
          have hP : va_P G.1 zCl ([]) H4 := hP
          have hD : va_D (zA M0 H0) ([]) := hD
          have hS := hS1
          refine z_top (b := dv 1) (by omega) ?_
          refine lv_aload_n hx hb dX10_sign_119 rfl (lv_at hl 4 rfl) ?_
          refine lv_aload_n hx hb dX10_sign_120 rfl (lv_at hl 5 rfl) ?_
          refine lv_iload hx hb dX10_sign_121 (lv_at hl 3 rfl) ?_
          refine lv_iload hx hb dX10_sign_123 (lv_at hl 0 rfl) ?_
          refine lv_iload hx hb dX10_sign_125 (lv_at hl 1 rfl) ?_
          refine z_go 0 0 (z_runVU (n := 4) (As := [.ref dl, .int (iI 1), .int (iI ((j &&& 1 : Nat) : Int)), .int (iI ((i &&& 1 : Nat) : Int))]) (rest := [.int (iI (dv 1))]) hC hml hl.1 (m_X10_sign_1 hE H4 (hO.ext0 (zS_F hS)) kd dl d dv da dm (j &&& 1) (i &&& 1) ekd (hL.ext0 (zS_F hS)) hdv (by omega) ⟨by have := Nat.and_le_right (n := j) (m := 1); omega, by have := Nat.and_le_right (n := i) (m := 1); omega⟩) q1112 q1113 q1958 q1111 nd_X10_sign rfl (z_k1 hE hC.w (hO.ext0 (zS_F hS)) ekd) rfl (Nat.le_of_ble_eq_true rfl) ⟨Nat.le_of_ble_eq_true rfl, Nat.le_of_ble_eq_true rfl⟩ ⟨zfit (k := 0) (z := 0) rfl rfl (by omega), zfit (k := 0) (z := 0) rfl rfl (by omega)⟩ dX10_sign_127) ⟨zad (k := 0) rfl (by omega), zad (k := 0) rfl (by omega)⟩ hS (fun _ z => z.elim) (fun r H5 locs hp hF hS1 => ?_)
          obtain ⟨_, rfl, rfl⟩ := hp
          have hP := zpk hP hF
          have hP : va_P G.1 zCl ([]) H5 := hP
          have hD : va_D (zA M0 H0) ([]) := hD
          have hS := hS1
          refine z_mul hx hb (z := (dv 1) * (sgD dv 1 (j &&& 1) (i &&& 1))) dX10_sign_130 rfl ?_
          refine lv_aload_n hx hb dX10_sign_131 rfl (lv_at hl 4 rfl) ?_
          refine lv_iload hx hb dX10_sign_132 (lv_at hl 0 rfl) ?_
          refine z_go 0 0 (z_runVU (n := 1) (As := [.int (iI ((j &&& 1 : Nat) : Int))]) (rest := [.int (iI ((dv 1) * (sgD dv 1 (j &&& 1) (i &&& 1))))]) hC hml hl.1 (m_X10_turned hE H5 (hO.ext0 (zS_F hS)) _ (j &&& 1) (by have := Nat.and_le_right (n := j) (m := 1); omega)) q339 q1114 q1959 q338 nd_X10_turned rfl (z_k1 hE hC.w (hO.ext0 (zS_F hS)) ekd) rfl (Nat.le_of_ble_eq_true rfl) ⟨Nat.le_of_ble_eq_true rfl, Nat.le_of_ble_eq_true rfl⟩ ⟨zfit (k := 0) (z := 0) rfl rfl (by omega), zfit (k := 0) (z := 0) rfl rfl (by omega)⟩ dX10_sign_134) ⟨zad (k := 0) rfl (by omega), zad (k := 0) rfl (by omega)⟩ hS (fun _ z => z.elim) (fun r H6 locs hp hF hS1 => ?_)
          obtain ⟨_, rfl, rfl⟩ := hp
          have hP := zpk hP hF
          have hP : va_P G.1 zCl ([]) H6 := hP
          have hD : va_D (zA M0 H0) ([]) := hD
          have hS := hS1
          refine z_mul hx hb (z := ((dv 1) * (sgD dv 1 (j &&& 1) (i &&& 1))) * (trn 0 (j &&& 1))) dX10_sign_137 rfl ?_
          exact z_iret hC hrt hlk hQ hS ⟨zle (z := 0) rfl (by omega), zle (z := 0) rfl (by omega)⟩ ⟨_, rfl, sgD_4 (h := 2) rfl (by omega) (by omega)⟩ dX10_sign_138
        · refine lv_aload_n hx hb dX10_sign_88 rfl (lv_at hl 4 rfl) ?_
          refine lv_aload_n hx hb dX10_sign_89 rfl (lv_at hl 5 rfl) ?_
          refine lv_iload hx hb dX10_sign_90 (lv_at hl 3 rfl) ?_
          refine lv_iload hx hb dX10_sign_92 (lv_at hl 1 rfl) ?_
          refine lv_iload hx hb dX10_sign_94 (lv_at hl 0 rfl) ?_
          refine z_go 0 0 (z_runVU (n := 4) (As := [.ref dl, .int (iI 1), .int (iI ((i &&& 1 : Nat) : Int)), .int (iI ((j &&& 1 : Nat) : Int))]) (rest := []) hC hml hl.1 (m_X10_sign_1 hE H0 (hO.ext0 (zS_F hS)) kd dl d dv da dm (i &&& 1) (j &&& 1) ekd (hL.ext0 (zS_F hS)) hdv (by omega) ⟨by have := Nat.and_le_right (n := i) (m := 1); omega, by have := Nat.and_le_right (n := j) (m := 1); omega⟩) q1112 q1113 q1958 q1111 nd_X10_sign rfl (z_k1 hE hC.w (hO.ext0 (zS_F hS)) ekd) rfl (Nat.le_of_ble_eq_true rfl) ⟨Nat.le_of_ble_eq_true rfl, Nat.le_of_ble_eq_true rfl⟩ ⟨zfit (k := 0) (z := 0) rfl rfl (by omega), zfit (k := 0) (z := 0) rfl rfl (by omega)⟩ dX10_sign_96) ⟨zad (k := 0) rfl (by omega), zad (k := 0) rfl (by omega)⟩ hS (fun _ z => z.elim) (fun r H7 locs hp hF hS1 => ?_)
          obtain ⟨_, rfl, rfl⟩ := hp
          have hP := zpk hP hF
          have hP : va_P G.1 zCl ([]) H7 := hP
          have hD : va_D (zA M0 H0) ([]) := hD
          have hS := hS1
          refine lv_aload_n hx hb dX10_sign_99 rfl (lv_at hl 4 rfl) ?_
          refine lv_iload hx hb dX10_sign_100 (lv_at hl 0 rfl) ?_
          refine z_go 0 0 (z_runVU (n := 1) (As := [.int (iI ((j &&& 1 : Nat) : Int))]) (rest := [.int (iI (sgD dv 1 (i &&& 1) (j &&& 1)))]) hC hml hl.1 (m_X10_turned hE H7 (hO.ext0 (zS_F hS)) _ (j &&& 1) (by have := Nat.and_le_right (n := j) (m := 1); omega)) q339 q1114 q1959 q338 nd_X10_turned rfl (z_k1 hE hC.w (hO.ext0 (zS_F hS)) ekd) rfl (Nat.le_of_ble_eq_true rfl) ⟨Nat.le_of_ble_eq_true rfl, Nat.le_of_ble_eq_true rfl⟩ ⟨zfit (k := 0) (z := 0) rfl rfl (by omega), zfit (k := 0) (z := 0) rfl rfl (by omega)⟩ dX10_sign_102) ⟨zad (k := 0) rfl (by omega), zad (k := 0) rfl (by omega)⟩ hS (fun _ z => z.elim) (fun r H8 locs hp hF hS1 => ?_)
          obtain ⟨_, rfl, rfl⟩ := hp
          have hP := zpk hP hF
          have hP : va_P G.1 zCl ([]) H8 := hP
          have hD : va_D (zA M0 H0) ([]) := hD
          have hS := hS1
          refine z_mul hx hb (z := (sgD dv 1 (i &&& 1) (j &&& 1)) * (trn 0 (j &&& 1))) dX10_sign_105 rfl ?_
          exact z_iret hC hrt hlk hQ hS ⟨zle (z := 0) rfl (by omega), zle (z := 0) rfl (by omega)⟩ ⟨_, rfl, sgD_3 (h := 2) rfl (by omega) (by omega)⟩ dX10_sign_106
      · exact absurd (by assumption) ci
    · refine lv_iload hx hb dX10_sign_41 (lv_at hl 8 rfl) ?_
      refine lv_iload hx hb dX10_sign_43 (lv_at hl 2 rfl) ?_
      refine z_and hx hb (n := j &&& 2) dX10_sign_45 rfl rfl rfl ?_
      refine z_zne (tgt := 61) hx hb dX10_sign_46 (by decide) (by omega) (fun c9 => ?_) (fun c9 => ?_)
      · refine lv_iload_n hx hb dX10_sign_61 rfl (lv_at hl 7 rfl) ?_
        refine lv_iload hx hb dX10_sign_62 (lv_at hl 2 rfl) ?_
        refine z_and hx hb (n := i &&& 2) dX10_sign_64 rfl rfl rfl ?_
        refine z_zne (tgt := 80) hx hb dX10_sign_65 (by decide) (by omega) (fun c10 => ?_) (fun c10 => ?_)
        · exact absurd ci (by assumption)
        · refine lv_aload_n hx hb dX10_sign_68 rfl (lv_at hl 4 rfl) ?_
          refine lv_aload_n hx hb dX10_sign_69 rfl (lv_at hl 5 rfl) ?_
          refine lv_iload hx hb dX10_sign_70 (lv_at hl 3 rfl) ?_
          refine lv_iload hx hb dX10_sign_72 (lv_at hl 0 rfl) ?_
          refine lv_iload hx hb dX10_sign_74 (lv_at hl 1 rfl) ?_
          refine z_go 0 0 (z_runVU (n := 4) (As := [.ref dl, .int (iI 1), .int (iI ((j &&& 1 : Nat) : Int)), .int (iI ((i &&& 1 : Nat) : Int))]) (rest := []) hC hml hl.1 (m_X10_sign_1 hE H0 (hO.ext0 (zS_F hS)) kd dl d dv da dm (j &&& 1) (i &&& 1) ekd (hL.ext0 (zS_F hS)) hdv (by omega) ⟨by have := Nat.and_le_right (n := j) (m := 1); omega, by have := Nat.and_le_right (n := i) (m := 1); omega⟩) q1112 q1113 q1958 q1111 nd_X10_sign rfl (z_k1 hE hC.w (hO.ext0 (zS_F hS)) ekd) rfl (Nat.le_of_ble_eq_true rfl) ⟨Nat.le_of_ble_eq_true rfl, Nat.le_of_ble_eq_true rfl⟩ ⟨zfit (k := 0) (z := 0) rfl rfl (by omega), zfit (k := 0) (z := 0) rfl rfl (by omega)⟩ dX10_sign_76) ⟨zad (k := 0) rfl (by omega), zad (k := 0) rfl (by omega)⟩ hS (fun _ z => z.elim) (fun r H11 locs hp hF hS1 => ?_)
          obtain ⟨_, rfl, rfl⟩ := hp
          have hP := zpk hP hF
          have hP : va_P G.1 zCl ([]) H11 := hP
          have hD : va_D (zA M0 H0) ([]) := hD
          have hS := hS1
          exact z_iret hC hrt hlk hQ hS ⟨zle (z := 0) rfl (by omega), zle (z := 0) rfl (by omega)⟩ ⟨_, rfl, sgD_2 (h := 2) rfl (by omega) (by omega)⟩ dX10_sign_79
      · refine lv_aload_n hx hb dX10_sign_49 rfl (lv_at hl 4 rfl) ?_
        refine lv_aload_n hx hb dX10_sign_50 rfl (lv_at hl 5 rfl) ?_
        refine lv_iload hx hb dX10_sign_51 (lv_at hl 3 rfl) ?_
        refine lv_iload hx hb dX10_sign_53 (lv_at hl 1 rfl) ?_
        refine lv_iload hx hb dX10_sign_55 (lv_at hl 0 rfl) ?_
        refine z_go 0 0 (z_runVU (n := 4) (As := [.ref dl, .int (iI 1), .int (iI ((i &&& 1 : Nat) : Int)), .int (iI ((j &&& 1 : Nat) : Int))]) (rest := []) hC hml hl.1 (m_X10_sign_1 hE H0 (hO.ext0 (zS_F hS)) kd dl d dv da dm (i &&& 1) (j &&& 1) ekd (hL.ext0 (zS_F hS)) hdv (by omega) ⟨by have := Nat.and_le_right (n := i) (m := 1); omega, by have := Nat.and_le_right (n := j) (m := 1); omega⟩) q1112 q1113 q1958 q1111 nd_X10_sign rfl (z_k1 hE hC.w (hO.ext0 (zS_F hS)) ekd) rfl (Nat.le_of_ble_eq_true rfl) ⟨Nat.le_of_ble_eq_true rfl, Nat.le_of_ble_eq_true rfl⟩ ⟨zfit (k := 0) (z := 0) rfl rfl (by omega), zfit (k := 0) (z := 0) rfl rfl (by omega)⟩ dX10_sign_57) ⟨zad (k := 0) rfl (by omega), zad (k := 0) rfl (by omega)⟩ hS (fun _ z => z.elim) (fun r H12 locs hp hF hS1 => ?_)
        obtain ⟨_, rfl, rfl⟩ := hp
        have hP := zpk hP hF
        have hP : va_P G.1 zCl ([]) H12 := hP
        have hD : va_D (zA M0 H0) ([]) := hD
        have hS := hS1
        exact z_iret hC hrt hlk hQ hS ⟨zle (z := 0) rfl (by omega), zle (z := 0) rfl (by omega)⟩ ⟨_, rfl, sgD_1 (h := 2) rfl (by omega) (by omega)⟩ dX10_sign_60
  · exact absurd c1 (by decide)

abbrev rm_m_X10_sign_3 : Room := { frames := 5, cells := 0, slots := 0, locals := 120 }
set_option maxHeartbeats 4000000 in
theorem m_X10_sign_3 {l : Launch} {s0 : State} {G : zG} (hE : zE l s0 G) (H0 : Heap) (hO : zO s0 H0) (kd : Nat) (dl d : Nat) (dv : Nat → Int) (da : Nat) (dm : Int) (i j : Nat) (ekd : kd = 0) (hL : zLs G dl d (fun i => G.2 (1000 + ((dv i).toNat + 128))) da dm H0) (hdv : ∀ k, k < d → 0 < dv k ∧ dv k < 7) (ht : 3 ≤ d) (hij : i < 16 ∧ j < 16) : zMU l s0 yX10_sign cX10_sign 9 (some FieldType.int) rm_m_X10_sign_3 [.ref (G.2 (10 + kd)), .ref dl, .int (iI 3), .int (iI ((i : Nat) : Int)), .int (iI ((j : Nat) : Int))] H0 M0 (ri (fun y _ => y = sgD dv 3 i j)) := by
  refine z_metU hE (by decide +kernel) (Nat.le_of_ble_eq_true rfl) ?_
  intro pp ee ss mm args below meth cd Q ls hC hml hrt hlk hnm hH hQ hS hl
  have hx := hC.x
  have hb := hC.b
  have hl : lv_has ls 9 [(0, .ref (G.2 (10 + kd))), (1, .ref dl), (2, .int (iI 3)), (3, .int (iI ((i : Nat) : Int))), (4, .int (iI ((j : Nat) : Int)))] := hl
  have hP : va_P G.1 zCl [] H0 := va_nil
  have hD : va_D (zA M0 H0) [] := va_nilD
  refine lv_iload_n hx hb dX10_sign_0 rfl (lv_at hl 2 rfl) ?_
  refine z_zne (tgt := 6) hx hb dX10_sign_1 (by decide) (by omega) (fun c1 => ?_) (fun c1 => ?_)
  · refine lv_iload_n hx hb dX10_sign_6 rfl (lv_at hl 2 rfl) ?_
    refine lv_iconst (v := iI 1) hx hb dX10_sign_7 rfl ?_
    refine z_sub hx hb (z := 3 - 1) dX10_sign_8 rfl ?_
    refine z_top (b := 2) (by decide) ?_
    refine lv_istore (lv' := [(5, .int (iI 2)), (0, .ref (G.2 (10 + kd))), (1, .ref dl), (2, .int (iI 3)), (3, .int (iI ((i : Nat) : Int))), (4, .int (iI ((j : Nat) : Int)))]) hx hb dX10_sign_9 hl (by decide) rfl (fun ls hl => ?_)
    refine lv_iconst (v := iI 1) hx hb dX10_sign_11 rfl ?_
    refine lv_iload hx hb dX10_sign_12 (lv_at hl 0 rfl) ?_
    refine z_shl hx hb (i := 1) (j := 2) (n := 1 * 2 ^ 2) dX10_sign_14 rfl rfl (by omega) rfl ?_
    refine z_top (b := 4) (by decide) ?_
    refine lv_istore (lv' := [(6, .int (iI 4)), (5, .int (iI 2)), (0, .ref (G.2 (10 + kd))), (1, .ref dl), (2, .int (iI 3)), (3, .int (iI ((i : Nat) : Int))), (4, .int (iI ((j : Nat) : Int)))]) hx hb dX10_sign_15 hl (by decide) rfl (fun ls hl => ?_)
    refine lv_iload_n hx hb dX10_sign_17 rfl (lv_at hl 5 rfl) ?_
    refine lv_iload hx hb dX10_sign_18 (lv_at hl 0 rfl) ?_
    refine lv_iconst (v := iI 1) hx hb dX10_sign_20 rfl ?_
    refine z_sub hx hb (z := 4 - 1) dX10_sign_21 rfl ?_
    refine z_top (b := 3) (by decide) ?_
    refine z_and hx hb (n := i &&& 3) dX10_sign_22 rfl rfl rfl ?_
    refine lv_istore (lv' := [(7, .int (iI ((i &&& 3 : Nat) : Int))), (6, .int (iI 4)), (5, .int (iI 2)), (0, .ref (G.2 (10 + kd))), (1, .ref dl), (2, .int (iI 3)), (3, .int (iI ((i : Nat) : Int))), (4, .int (iI ((j : Nat) : Int)))]) hx hb dX10_sign_23 hl (by decide) rfl (fun ls hl => ?_)
    refine lv_iload hx hb dX10_sign_25 (lv_at hl 7 rfl) ?_
    refine lv_iload hx hb dX10_sign_27 (lv_at hl 1 rfl) ?_
    refine lv_iconst (v := iI 1) hx hb dX10_sign_29 rfl ?_
    refine z_sub hx hb (z := 4 - 1) dX10_sign_30 rfl ?_
    refine z_top (b := 3) (by decide) ?_
    refine z_and hx hb (n := j &&& 3) dX10_sign_31 rfl rfl rfl ?_
    refine lv_istore (lv' := [(8, .int (iI ((j &&& 3 : Nat) : Int))), (7, .int (iI ((i &&& 3 : Nat) : Int))), (6, .int (iI 4)), (5, .int (iI 2)), (0, .ref (G.2 (10 + kd))), (1, .ref dl), (2, .int (iI 3)), (3, .int (iI ((i : Nat) : Int))), (4, .int (iI ((j : Nat) : Int)))]) hx hb dX10_sign_32 hl (by decide) rfl (fun ls hl => ?_)
    refine lv_iload_n hx hb dX10_sign_34 rfl (lv_at hl 7 rfl) ?_
    refine lv_iload hx hb dX10_sign_35 (lv_at hl 2 rfl) ?_
    refine z_and hx hb (n := i &&& 4) dX10_sign_37 rfl rfl rfl ?_
    have hia := Nat.and_le_right (n := i) (m := 4)
    have hja := Nat.and_le_right (n := j) (m := 4)
    refine z_zne (tgt := 61) hx hb dX10_sign_38 (by decide) (by omega) (fun ci => ?_) (fun ci => ?_)
    · refine lv_iload_n hx hb dX10_sign_61 rfl (lv_at hl 7 rfl) ?_
      refine lv_iload hx hb dX10_sign_62 (lv_at hl 2 rfl) ?_
      refine z_and hx hb (n := i &&& 4) dX10_sign_64 rfl rfl rfl ?_
      refine z_zne (tgt := 80) hx hb dX10_sign_65 (by decide) (by omega) (fun c1 => ?_) (fun c1 => ?_)
      · refine lv_iload hx hb dX10_sign_80 (lv_at hl 8 rfl) ?_
        refine lv_iload hx hb dX10_sign_82 (lv_at hl 2 rfl) ?_
        refine z_and hx hb (n := j &&& 4) dX10_sign_84 rfl rfl rfl ?_
        refine z_zne (tgt := 107) hx hb dX10_sign_85 (by decide) (by omega) (fun c2 => ?_) (fun c2 => ?_)
        · refine lv_aload_n hx hb dX10_sign_107 rfl (lv_at hl 5 rfl) ?_
          refine lv_iload hx hb dX10_sign_108 (lv_at hl 3 rfl) ?_
          refine z_go 0 0 (z_runV (As := [.int (iI 2)]) (rest := []) hC hml hl.1 (m_J2_get hE H0 (hO.ext0 (zS_F hS)) dl d _ da dm 2 (hL.ext0 (zS_F hS)) (by omega)) (lw_V q1115 q373 q374 q65 q375) rfl nd_J2_get rfl (z_rv hC (ci := 8) rfl (zo hS hL.1 id) rfl) rfl (Nat.le_of_ble_eq_true rfl) ⟨Nat.le_of_ble_eq_true rfl, Nat.le_of_ble_eq_true rfl⟩ ⟨zfit (k := 0) (z := 0) rfl rfl (by omega), zfit (k := 0) (z := 0) rfl rfl (by omega)⟩ dX10_sign_110) ⟨zad (k := 0) rfl (by omega), zad (k := 0) rfl (by omega)⟩ hS (fun _ z => z.elim) (fun r H3 locs hp hF hS1 => ?_)
          obtain ⟨_, rfl, rfl⟩ := hp
          have hP := zpk hP hF
          have hP : va_P G.1 zCl ([]) H3 := hP
          have hD : va_D (zA M0 H0) ([]) := hD
          have hS := hS1
          have hdk := hdv 2 (by omega)
          refine z_castC hC (hO.ext0 (zS_F hS)) (by omega) q1116 dX10_sign_113 ?_
          refine z_go 0 0 (z_runV (As := []) (rest := []) hC hml hl.1 (m_J19_intValue hE H3 (hO.ext0 (zS_F hS)) ((dv 2).toNat + 128) (by omega)) (lw_V q1117 q427 q428 q90 q429) rfl nd_J19_intValue rfl (z_cc hE hC.w (hO.ext0 (zS_F hS)) (by omega)) rfl (Nat.le_of_ble_eq_true rfl) ⟨Nat.le_of_ble_eq_true rfl, Nat.le_of_ble_eq_true rfl⟩ ⟨zfit (k := 0) (z := 0) rfl rfl (by omega), zfit (k := 0) (z := 0) rfl rfl (by omega)⟩ dX10_sign_116) ⟨zad (k := 0) rfl (by omega), zad (k := 0) rfl (by omega)⟩ hS (fun _ z => z.elim) (fun r H4 locs hp hF hS1 => ?_)
          obtain ⟨_, rfl, rfl⟩ := hp
          have hP := zpk hP hF
          have hP : va_P G.1 zCl ([]) H4 := hP
          have hD : va_D (zA M0 H0) ([]) := hD
          have hS := hS1
          refine z_top (b := dv 2) (by omega) ?_
          refine lv_aload_n hx hb dX10_sign_119 rfl (lv_at hl 4 rfl) ?_
          refine lv_aload_n hx hb dX10_sign_120 rfl (lv_at hl 5 rfl) ?_
          refine lv_iload hx hb dX10_sign_121 (lv_at hl 3 rfl) ?_
          refine lv_iload hx hb dX10_sign_123 (lv_at hl 0 rfl) ?_
          refine lv_iload hx hb dX10_sign_125 (lv_at hl 1 rfl) ?_
          refine z_go 0 0 (z_runVU (n := 4) (As := [.ref dl, .int (iI 2), .int (iI ((j &&& 3 : Nat) : Int)), .int (iI ((i &&& 3 : Nat) : Int))]) (rest := [.int (iI (dv 2))]) hC hml hl.1 (m_X10_sign_2 hE H4 (hO.ext0 (zS_F hS)) kd dl d dv da dm (j &&& 3) (i &&& 3) ekd (hL.ext0 (zS_F hS)) hdv (by omega) ⟨by have := Nat.and_le_right (n := j) (m := 3); omega, by have := Nat.and_le_right (n := i) (m := 3); omega⟩) q1112 q1113 q1958 q1111 nd_X10_sign rfl (z_k1 hE hC.w (hO.ext0 (zS_F hS)) ekd) rfl (Nat.le_of_ble_eq_true rfl) ⟨Nat.le_of_ble_eq_true rfl, Nat.le_of_ble_eq_true rfl⟩ ⟨zfit (k := 0) (z := 0) rfl rfl (by omega), zfit (k := 0) (z := 0) rfl rfl (by omega)⟩ dX10_sign_127) ⟨zad (k := 0) rfl (by omega), zad (k := 0) rfl (by omega)⟩ hS (fun _ z => z.elim) (fun r H5 locs hp hF hS1 => ?_)
          obtain ⟨_, rfl, rfl⟩ := hp
          have hP := zpk hP hF
          have hP : va_P G.1 zCl ([]) H5 := hP
          have hD : va_D (zA M0 H0) ([]) := hD
          have hS := hS1
          refine z_mul hx hb (z := (dv 2) * (sgD dv 2 (j &&& 3) (i &&& 3))) dX10_sign_130 rfl ?_
          refine lv_aload_n hx hb dX10_sign_131 rfl (lv_at hl 4 rfl) ?_
          refine lv_iload hx hb dX10_sign_132 (lv_at hl 0 rfl) ?_
          refine z_go 0 0 (z_runVU (n := 1) (As := [.int (iI ((j &&& 3 : Nat) : Int))]) (rest := [.int (iI ((dv 2) * (sgD dv 2 (j &&& 3) (i &&& 3))))]) hC hml hl.1 (m_X10_turned hE H5 (hO.ext0 (zS_F hS)) _ (j &&& 3) (by have := Nat.and_le_right (n := j) (m := 3); omega)) q339 q1114 q1959 q338 nd_X10_turned rfl (z_k1 hE hC.w (hO.ext0 (zS_F hS)) ekd) rfl (Nat.le_of_ble_eq_true rfl) ⟨Nat.le_of_ble_eq_true rfl, Nat.le_of_ble_eq_true rfl⟩ ⟨zfit (k := 0) (z := 0) rfl rfl (by omega), zfit (k := 0) (z := 0) rfl rfl (by omega)⟩ dX10_sign_134) ⟨zad (k := 0) rfl (by omega), zad (k := 0) rfl (by omega)⟩ hS (fun _ z => z.elim) (fun r H6 locs hp hF hS1 => ?_)
          obtain ⟨_, rfl, rfl⟩ := hp
          have hP := zpk hP hF
          have hP : va_P G.1 zCl ([]) H6 := hP
          have hD : va_D (zA M0 H0) ([]) := hD
          have hS := hS1
          refine z_mul hx hb (z := ((dv 2) * (sgD dv 2 (j &&& 3) (i &&& 3))) * (trn 0 (j &&& 3))) dX10_sign_137 rfl ?_
          exact z_iret hC hrt hlk hQ hS ⟨zle (z := 0) rfl (by omega), zle (z := 0) rfl (by omega)⟩ ⟨_, rfl, sgD_4 (h := 4) rfl (by omega) (by omega)⟩ dX10_sign_138
        · refine lv_aload_n hx hb dX10_sign_88 rfl (lv_at hl 4 rfl) ?_
          refine lv_aload_n hx hb dX10_sign_89 rfl (lv_at hl 5 rfl) ?_
          refine lv_iload hx hb dX10_sign_90 (lv_at hl 3 rfl) ?_
          refine lv_iload hx hb dX10_sign_92 (lv_at hl 1 rfl) ?_
          refine lv_iload hx hb dX10_sign_94 (lv_at hl 0 rfl) ?_
          refine z_go 0 0 (z_runVU (n := 4) (As := [.ref dl, .int (iI 2), .int (iI ((i &&& 3 : Nat) : Int)), .int (iI ((j &&& 3 : Nat) : Int))]) (rest := []) hC hml hl.1 (m_X10_sign_2 hE H0 (hO.ext0 (zS_F hS)) kd dl d dv da dm (i &&& 3) (j &&& 3) ekd (hL.ext0 (zS_F hS)) hdv (by omega) ⟨by have := Nat.and_le_right (n := i) (m := 3); omega, by have := Nat.and_le_right (n := j) (m := 3); omega⟩) q1112 q1113 q1958 q1111 nd_X10_sign rfl (z_k1 hE hC.w (hO.ext0 (zS_F hS)) ekd) rfl (Nat.le_of_ble_eq_true rfl) ⟨Nat.le_of_ble_eq_true rfl, Nat.le_of_ble_eq_true rfl⟩ ⟨zfit (k := 0) (z := 0) rfl rfl (by omega), zfit (k := 0) (z := 0) rfl rfl (by omega)⟩ dX10_sign_96) ⟨zad (k := 0) rfl (by omega), zad (k := 0) rfl (by omega)⟩ hS (fun _ z => z.elim) (fun r H7 locs hp hF hS1 => ?_)
          obtain ⟨_, rfl, rfl⟩ := hp
          have hP := zpk hP hF
          have hP : va_P G.1 zCl ([]) H7 := hP
          have hD : va_D (zA M0 H0) ([]) := hD
          have hS := hS1
          refine lv_aload_n hx hb dX10_sign_99 rfl (lv_at hl 4 rfl) ?_
          refine lv_iload hx hb dX10_sign_100 (lv_at hl 0 rfl) ?_
          refine z_go 0 0 (z_runVU (n := 1) (As := [.int (iI ((j &&& 3 : Nat) : Int))]) (rest := [.int (iI (sgD dv 2 (i &&& 3) (j &&& 3)))]) hC hml hl.1 (m_X10_turned hE H7 (hO.ext0 (zS_F hS)) _ (j &&& 3) (by have := Nat.and_le_right (n := j) (m := 3); omega)) q339 q1114 q1959 q338 nd_X10_turned rfl (z_k1 hE hC.w (hO.ext0 (zS_F hS)) ekd) rfl (Nat.le_of_ble_eq_true rfl) ⟨Nat.le_of_ble_eq_true rfl, Nat.le_of_ble_eq_true rfl⟩ ⟨zfit (k := 0) (z := 0) rfl rfl (by omega), zfit (k := 0) (z := 0) rfl rfl (by omega)⟩ dX10_sign_102) ⟨zad (k := 0) rfl (by omega), zad (k := 0) rfl (by omega)⟩ hS (fun _ z => z.elim) (fun r H8 locs hp hF hS1 => ?_)
          obtain ⟨_, rfl, rfl⟩ := hp
          have hP := zpk hP hF
          have hP : va_P G.1 zCl ([]) H8 := hP
          have hD : va_D (zA M0 H0) ([]) := hD
          have hS := hS1
          refine z_mul hx hb (z := (sgD dv 2 (i &&& 3) (j &&& 3)) * (trn 0 (j &&& 3))) dX10_sign_105 rfl ?_
          exact z_iret hC hrt hlk hQ hS ⟨zle (z := 0) rfl (by omega), zle (z := 0) rfl (by omega)⟩ ⟨_, rfl, sgD_3 (h := 4) rfl (by omega) (by omega)⟩ dX10_sign_106
      · exact absurd (by assumption) ci
    · refine lv_iload hx hb dX10_sign_41 (lv_at hl 8 rfl) ?_
      refine lv_iload hx hb dX10_sign_43 (lv_at hl 2 rfl) ?_
      refine z_and hx hb (n := j &&& 4) dX10_sign_45 rfl rfl rfl ?_
      refine z_zne (tgt := 61) hx hb dX10_sign_46 (by decide) (by omega) (fun c9 => ?_) (fun c9 => ?_)
      · refine lv_iload_n hx hb dX10_sign_61 rfl (lv_at hl 7 rfl) ?_
        refine lv_iload hx hb dX10_sign_62 (lv_at hl 2 rfl) ?_
        refine z_and hx hb (n := i &&& 4) dX10_sign_64 rfl rfl rfl ?_
        refine z_zne (tgt := 80) hx hb dX10_sign_65 (by decide) (by omega) (fun c10 => ?_) (fun c10 => ?_)
        · exact absurd ci (by assumption)
        · refine lv_aload_n hx hb dX10_sign_68 rfl (lv_at hl 4 rfl) ?_
          refine lv_aload_n hx hb dX10_sign_69 rfl (lv_at hl 5 rfl) ?_
          refine lv_iload hx hb dX10_sign_70 (lv_at hl 3 rfl) ?_
          refine lv_iload hx hb dX10_sign_72 (lv_at hl 0 rfl) ?_
          refine lv_iload hx hb dX10_sign_74 (lv_at hl 1 rfl) ?_
          refine z_go 0 0 (z_runVU (n := 4) (As := [.ref dl, .int (iI 2), .int (iI ((j &&& 3 : Nat) : Int)), .int (iI ((i &&& 3 : Nat) : Int))]) (rest := []) hC hml hl.1 (m_X10_sign_2 hE H0 (hO.ext0 (zS_F hS)) kd dl d dv da dm (j &&& 3) (i &&& 3) ekd (hL.ext0 (zS_F hS)) hdv (by omega) ⟨by have := Nat.and_le_right (n := j) (m := 3); omega, by have := Nat.and_le_right (n := i) (m := 3); omega⟩) q1112 q1113 q1958 q1111 nd_X10_sign rfl (z_k1 hE hC.w (hO.ext0 (zS_F hS)) ekd) rfl (Nat.le_of_ble_eq_true rfl) ⟨Nat.le_of_ble_eq_true rfl, Nat.le_of_ble_eq_true rfl⟩ ⟨zfit (k := 0) (z := 0) rfl rfl (by omega), zfit (k := 0) (z := 0) rfl rfl (by omega)⟩ dX10_sign_76) ⟨zad (k := 0) rfl (by omega), zad (k := 0) rfl (by omega)⟩ hS (fun _ z => z.elim) (fun r H11 locs hp hF hS1 => ?_)
          obtain ⟨_, rfl, rfl⟩ := hp
          have hP := zpk hP hF
          have hP : va_P G.1 zCl ([]) H11 := hP
          have hD : va_D (zA M0 H0) ([]) := hD
          have hS := hS1
          exact z_iret hC hrt hlk hQ hS ⟨zle (z := 0) rfl (by omega), zle (z := 0) rfl (by omega)⟩ ⟨_, rfl, sgD_2 (h := 4) rfl (by omega) (by omega)⟩ dX10_sign_79
      · refine lv_aload_n hx hb dX10_sign_49 rfl (lv_at hl 4 rfl) ?_
        refine lv_aload_n hx hb dX10_sign_50 rfl (lv_at hl 5 rfl) ?_
        refine lv_iload hx hb dX10_sign_51 (lv_at hl 3 rfl) ?_
        refine lv_iload hx hb dX10_sign_53 (lv_at hl 1 rfl) ?_
        refine lv_iload hx hb dX10_sign_55 (lv_at hl 0 rfl) ?_
        refine z_go 0 0 (z_runVU (n := 4) (As := [.ref dl, .int (iI 2), .int (iI ((i &&& 3 : Nat) : Int)), .int (iI ((j &&& 3 : Nat) : Int))]) (rest := []) hC hml hl.1 (m_X10_sign_2 hE H0 (hO.ext0 (zS_F hS)) kd dl d dv da dm (i &&& 3) (j &&& 3) ekd (hL.ext0 (zS_F hS)) hdv (by omega) ⟨by have := Nat.and_le_right (n := i) (m := 3); omega, by have := Nat.and_le_right (n := j) (m := 3); omega⟩) q1112 q1113 q1958 q1111 nd_X10_sign rfl (z_k1 hE hC.w (hO.ext0 (zS_F hS)) ekd) rfl (Nat.le_of_ble_eq_true rfl) ⟨Nat.le_of_ble_eq_true rfl, Nat.le_of_ble_eq_true rfl⟩ ⟨zfit (k := 0) (z := 0) rfl rfl (by omega), zfit (k := 0) (z := 0) rfl rfl (by omega)⟩ dX10_sign_57) ⟨zad (k := 0) rfl (by omega), zad (k := 0) rfl (by omega)⟩ hS (fun _ z => z.elim) (fun r H12 locs hp hF hS1 => ?_)
        obtain ⟨_, rfl, rfl⟩ := hp
        have hP := zpk hP hF
        have hP : va_P G.1 zCl ([]) H12 := hP
        have hD : va_D (zA M0 H0) ([]) := hD
        have hS := hS1
        exact z_iret hC hrt hlk hQ hS ⟨zle (z := 0) rfl (by omega), zle (z := 0) rfl (by omega)⟩ ⟨_, rfl, sgD_1 (h := 4) rfl (by omega) (by omega)⟩ dX10_sign_60
  · exact absurd c1 (by decide)

abbrev rm_m_X10_sign_4 : Room := { frames := 6, cells := 0, slots := 0, locals := 148 }
set_option maxHeartbeats 4000000 in
theorem m_X10_sign_4 {l : Launch} {s0 : State} {G : zG} (hE : zE l s0 G) (H0 : Heap) (hO : zO s0 H0) (kd : Nat) (dl d : Nat) (dv : Nat → Int) (da : Nat) (dm : Int) (i j : Nat) (ekd : kd = 0) (hL : zLs G dl d (fun i => G.2 (1000 + ((dv i).toNat + 128))) da dm H0) (hdv : ∀ k, k < d → 0 < dv k ∧ dv k < 7) (ht : 4 ≤ d) (hij : i < 16 ∧ j < 16) : zMU l s0 yX10_sign cX10_sign 9 (some FieldType.int) rm_m_X10_sign_4 [.ref (G.2 (10 + kd)), .ref dl, .int (iI 4), .int (iI ((i : Nat) : Int)), .int (iI ((j : Nat) : Int))] H0 M0 (ri (fun y _ => y = sgD dv 4 i j)) := by
  refine z_metU hE (by decide +kernel) (Nat.le_of_ble_eq_true rfl) ?_
  intro pp ee ss mm args below meth cd Q ls hC hml hrt hlk hnm hH hQ hS hl
  have hx := hC.x
  have hb := hC.b
  have hl : lv_has ls 9 [(0, .ref (G.2 (10 + kd))), (1, .ref dl), (2, .int (iI 4)), (3, .int (iI ((i : Nat) : Int))), (4, .int (iI ((j : Nat) : Int)))] := hl
  have hP : va_P G.1 zCl [] H0 := va_nil
  have hD : va_D (zA M0 H0) [] := va_nilD
  refine lv_iload_n hx hb dX10_sign_0 rfl (lv_at hl 2 rfl) ?_
  refine z_zne (tgt := 6) hx hb dX10_sign_1 (by decide) (by omega) (fun c1 => ?_) (fun c1 => ?_)
  · refine lv_iload_n hx hb dX10_sign_6 rfl (lv_at hl 2 rfl) ?_
    refine lv_iconst (v := iI 1) hx hb dX10_sign_7 rfl ?_
    refine z_sub hx hb (z := 4 - 1) dX10_sign_8 rfl ?_
    refine z_top (b := 3) (by decide) ?_
    refine lv_istore (lv' := [(5, .int (iI 3)), (0, .ref (G.2 (10 + kd))), (1, .ref dl), (2, .int (iI 4)), (3, .int (iI ((i : Nat) : Int))), (4, .int (iI ((j : Nat) : Int)))]) hx hb dX10_sign_9 hl (by decide) rfl (fun ls hl => ?_)
    refine lv_iconst (v := iI 1) hx hb dX10_sign_11 rfl ?_
    refine lv_iload hx hb dX10_sign_12 (lv_at hl 0 rfl) ?_
    refine z_shl hx hb (i := 1) (j := 3) (n := 1 * 2 ^ 3) dX10_sign_14 rfl rfl (by omega) rfl ?_
    refine z_top (b := 8) (by decide) ?_
    refine lv_istore (lv' := [(6, .int (iI 8)), (5, .int (iI 3)), (0, .ref (G.2 (10 + kd))), (1, .ref dl), (2, .int (iI 4)), (3, .int (iI ((i : Nat) : Int))), (4, .int (iI ((j : Nat) : Int)))]) hx hb dX10_sign_15 hl (by decide) rfl (fun ls hl => ?_)
    refine lv_iload_n hx hb dX10_sign_17 rfl (lv_at hl 5 rfl) ?_
    refine lv_iload hx hb dX10_sign_18 (lv_at hl 0 rfl) ?_
    refine lv_iconst (v := iI 1) hx hb dX10_sign_20 rfl ?_
    refine z_sub hx hb (z := 8 - 1) dX10_sign_21 rfl ?_
    refine z_top (b := 7) (by decide) ?_
    refine z_and hx hb (n := i &&& 7) dX10_sign_22 rfl rfl rfl ?_
    refine lv_istore (lv' := [(7, .int (iI ((i &&& 7 : Nat) : Int))), (6, .int (iI 8)), (5, .int (iI 3)), (0, .ref (G.2 (10 + kd))), (1, .ref dl), (2, .int (iI 4)), (3, .int (iI ((i : Nat) : Int))), (4, .int (iI ((j : Nat) : Int)))]) hx hb dX10_sign_23 hl (by decide) rfl (fun ls hl => ?_)
    refine lv_iload hx hb dX10_sign_25 (lv_at hl 7 rfl) ?_
    refine lv_iload hx hb dX10_sign_27 (lv_at hl 1 rfl) ?_
    refine lv_iconst (v := iI 1) hx hb dX10_sign_29 rfl ?_
    refine z_sub hx hb (z := 8 - 1) dX10_sign_30 rfl ?_
    refine z_top (b := 7) (by decide) ?_
    refine z_and hx hb (n := j &&& 7) dX10_sign_31 rfl rfl rfl ?_
    refine lv_istore (lv' := [(8, .int (iI ((j &&& 7 : Nat) : Int))), (7, .int (iI ((i &&& 7 : Nat) : Int))), (6, .int (iI 8)), (5, .int (iI 3)), (0, .ref (G.2 (10 + kd))), (1, .ref dl), (2, .int (iI 4)), (3, .int (iI ((i : Nat) : Int))), (4, .int (iI ((j : Nat) : Int)))]) hx hb dX10_sign_32 hl (by decide) rfl (fun ls hl => ?_)
    refine lv_iload_n hx hb dX10_sign_34 rfl (lv_at hl 7 rfl) ?_
    refine lv_iload hx hb dX10_sign_35 (lv_at hl 2 rfl) ?_
    refine z_and hx hb (n := i &&& 8) dX10_sign_37 rfl rfl rfl ?_
    have hia := Nat.and_le_right (n := i) (m := 8)
    have hja := Nat.and_le_right (n := j) (m := 8)
    refine z_zne (tgt := 61) hx hb dX10_sign_38 (by decide) (by omega) (fun ci => ?_) (fun ci => ?_)
    · refine lv_iload_n hx hb dX10_sign_61 rfl (lv_at hl 7 rfl) ?_
      refine lv_iload hx hb dX10_sign_62 (lv_at hl 2 rfl) ?_
      refine z_and hx hb (n := i &&& 8) dX10_sign_64 rfl rfl rfl ?_
      refine z_zne (tgt := 80) hx hb dX10_sign_65 (by decide) (by omega) (fun c1 => ?_) (fun c1 => ?_)
      · refine lv_iload hx hb dX10_sign_80 (lv_at hl 8 rfl) ?_
        refine lv_iload hx hb dX10_sign_82 (lv_at hl 2 rfl) ?_
        refine z_and hx hb (n := j &&& 8) dX10_sign_84 rfl rfl rfl ?_
        refine z_zne (tgt := 107) hx hb dX10_sign_85 (by decide) (by omega) (fun c2 => ?_) (fun c2 => ?_)
        · refine lv_aload_n hx hb dX10_sign_107 rfl (lv_at hl 5 rfl) ?_
          refine lv_iload hx hb dX10_sign_108 (lv_at hl 3 rfl) ?_
          refine z_go 0 0 (z_runV (As := [.int (iI 3)]) (rest := []) hC hml hl.1 (m_J2_get hE H0 (hO.ext0 (zS_F hS)) dl d _ da dm 3 (hL.ext0 (zS_F hS)) (by omega)) (lw_V q1115 q373 q374 q65 q375) rfl nd_J2_get rfl (z_rv hC (ci := 8) rfl (zo hS hL.1 id) rfl) rfl (Nat.le_of_ble_eq_true rfl) ⟨Nat.le_of_ble_eq_true rfl, Nat.le_of_ble_eq_true rfl⟩ ⟨zfit (k := 0) (z := 0) rfl rfl (by omega), zfit (k := 0) (z := 0) rfl rfl (by omega)⟩ dX10_sign_110) ⟨zad (k := 0) rfl (by omega), zad (k := 0) rfl (by omega)⟩ hS (fun _ z => z.elim) (fun r H3 locs hp hF hS1 => ?_)
          obtain ⟨_, rfl, rfl⟩ := hp
          have hP := zpk hP hF
          have hP : va_P G.1 zCl ([]) H3 := hP
          have hD : va_D (zA M0 H0) ([]) := hD
          have hS := hS1
          have hdk := hdv 3 (by omega)
          refine z_castC hC (hO.ext0 (zS_F hS)) (by omega) q1116 dX10_sign_113 ?_
          refine z_go 0 0 (z_runV (As := []) (rest := []) hC hml hl.1 (m_J19_intValue hE H3 (hO.ext0 (zS_F hS)) ((dv 3).toNat + 128) (by omega)) (lw_V q1117 q427 q428 q90 q429) rfl nd_J19_intValue rfl (z_cc hE hC.w (hO.ext0 (zS_F hS)) (by omega)) rfl (Nat.le_of_ble_eq_true rfl) ⟨Nat.le_of_ble_eq_true rfl, Nat.le_of_ble_eq_true rfl⟩ ⟨zfit (k := 0) (z := 0) rfl rfl (by omega), zfit (k := 0) (z := 0) rfl rfl (by omega)⟩ dX10_sign_116) ⟨zad (k := 0) rfl (by omega), zad (k := 0) rfl (by omega)⟩ hS (fun _ z => z.elim) (fun r H4 locs hp hF hS1 => ?_)
          obtain ⟨_, rfl, rfl⟩ := hp
          have hP := zpk hP hF
          have hP : va_P G.1 zCl ([]) H4 := hP
          have hD : va_D (zA M0 H0) ([]) := hD
          have hS := hS1
          refine z_top (b := dv 3) (by omega) ?_
          refine lv_aload_n hx hb dX10_sign_119 rfl (lv_at hl 4 rfl) ?_
          refine lv_aload_n hx hb dX10_sign_120 rfl (lv_at hl 5 rfl) ?_
          refine lv_iload hx hb dX10_sign_121 (lv_at hl 3 rfl) ?_
          refine lv_iload hx hb dX10_sign_123 (lv_at hl 0 rfl) ?_
          refine lv_iload hx hb dX10_sign_125 (lv_at hl 1 rfl) ?_
          refine z_go 0 0 (z_runVU (n := 4) (As := [.ref dl, .int (iI 3), .int (iI ((j &&& 7 : Nat) : Int)), .int (iI ((i &&& 7 : Nat) : Int))]) (rest := [.int (iI (dv 3))]) hC hml hl.1 (m_X10_sign_3 hE H4 (hO.ext0 (zS_F hS)) kd dl d dv da dm (j &&& 7) (i &&& 7) ekd (hL.ext0 (zS_F hS)) hdv (by omega) ⟨by have := Nat.and_le_right (n := j) (m := 7); omega, by have := Nat.and_le_right (n := i) (m := 7); omega⟩) q1112 q1113 q1958 q1111 nd_X10_sign rfl (z_k1 hE hC.w (hO.ext0 (zS_F hS)) ekd) rfl (Nat.le_of_ble_eq_true rfl) ⟨Nat.le_of_ble_eq_true rfl, Nat.le_of_ble_eq_true rfl⟩ ⟨zfit (k := 0) (z := 0) rfl rfl (by omega), zfit (k := 0) (z := 0) rfl rfl (by omega)⟩ dX10_sign_127) ⟨zad (k := 0) rfl (by omega), zad (k := 0) rfl (by omega)⟩ hS (fun _ z => z.elim) (fun r H5 locs hp hF hS1 => ?_)
          obtain ⟨_, rfl, rfl⟩ := hp
          have hP := zpk hP hF
          have hP : va_P G.1 zCl ([]) H5 := hP
          have hD : va_D (zA M0 H0) ([]) := hD
          have hS := hS1
          refine z_mul hx hb (z := (dv 3) * (sgD dv 3 (j &&& 7) (i &&& 7))) dX10_sign_130 rfl ?_
          refine lv_aload_n hx hb dX10_sign_131 rfl (lv_at hl 4 rfl) ?_
          refine lv_iload hx hb dX10_sign_132 (lv_at hl 0 rfl) ?_
          refine z_go 0 0 (z_runVU (n := 1) (As := [.int (iI ((j &&& 7 : Nat) : Int))]) (rest := [.int (iI ((dv 3) * (sgD dv 3 (j &&& 7) (i &&& 7))))]) hC hml hl.1 (m_X10_turned hE H5 (hO.ext0 (zS_F hS)) _ (j &&& 7) (by have := Nat.and_le_right (n := j) (m := 7); omega)) q339 q1114 q1959 q338 nd_X10_turned rfl (z_k1 hE hC.w (hO.ext0 (zS_F hS)) ekd) rfl (Nat.le_of_ble_eq_true rfl) ⟨Nat.le_of_ble_eq_true rfl, Nat.le_of_ble_eq_true rfl⟩ ⟨zfit (k := 0) (z := 0) rfl rfl (by omega), zfit (k := 0) (z := 0) rfl rfl (by omega)⟩ dX10_sign_134) ⟨zad (k := 0) rfl (by omega), zad (k := 0) rfl (by omega)⟩ hS (fun _ z => z.elim) (fun r H6 locs hp hF hS1 => ?_)
          obtain ⟨_, rfl, rfl⟩ := hp
          have hP := zpk hP hF
          have hP : va_P G.1 zCl ([]) H6 := hP
          have hD : va_D (zA M0 H0) ([]) := hD
          have hS := hS1
          refine z_mul hx hb (z := ((dv 3) * (sgD dv 3 (j &&& 7) (i &&& 7))) * (trn 0 (j &&& 7))) dX10_sign_137 rfl ?_
          exact z_iret hC hrt hlk hQ hS ⟨zle (z := 0) rfl (by omega), zle (z := 0) rfl (by omega)⟩ ⟨_, rfl, sgD_4 (h := 8) rfl (by omega) (by omega)⟩ dX10_sign_138
        · refine lv_aload_n hx hb dX10_sign_88 rfl (lv_at hl 4 rfl) ?_
          refine lv_aload_n hx hb dX10_sign_89 rfl (lv_at hl 5 rfl) ?_
          refine lv_iload hx hb dX10_sign_90 (lv_at hl 3 rfl) ?_
          refine lv_iload hx hb dX10_sign_92 (lv_at hl 1 rfl) ?_
          refine lv_iload hx hb dX10_sign_94 (lv_at hl 0 rfl) ?_
          refine z_go 0 0 (z_runVU (n := 4) (As := [.ref dl, .int (iI 3), .int (iI ((i &&& 7 : Nat) : Int)), .int (iI ((j &&& 7 : Nat) : Int))]) (rest := []) hC hml hl.1 (m_X10_sign_3 hE H0 (hO.ext0 (zS_F hS)) kd dl d dv da dm (i &&& 7) (j &&& 7) ekd (hL.ext0 (zS_F hS)) hdv (by omega) ⟨by have := Nat.and_le_right (n := i) (m := 7); omega, by have := Nat.and_le_right (n := j) (m := 7); omega⟩) q1112 q1113 q1958 q1111 nd_X10_sign rfl (z_k1 hE hC.w (hO.ext0 (zS_F hS)) ekd) rfl (Nat.le_of_ble_eq_true rfl) ⟨Nat.le_of_ble_eq_true rfl, Nat.le_of_ble_eq_true rfl⟩ ⟨zfit (k := 0) (z := 0) rfl rfl (by omega), zfit (k := 0) (z := 0) rfl rfl (by omega)⟩ dX10_sign_96) ⟨zad (k := 0) rfl (by omega), zad (k := 0) rfl (by omega)⟩ hS (fun _ z => z.elim) (fun r H7 locs hp hF hS1 => ?_)
          obtain ⟨_, rfl, rfl⟩ := hp
          have hP := zpk hP hF
          have hP : va_P G.1 zCl ([]) H7 := hP
          have hD : va_D (zA M0 H0) ([]) := hD
          have hS := hS1
          refine lv_aload_n hx hb dX10_sign_99 rfl (lv_at hl 4 rfl) ?_
          refine lv_iload hx hb dX10_sign_100 (lv_at hl 0 rfl) ?_
          refine z_go 0 0 (z_runVU (n := 1) (As := [.int (iI ((j &&& 7 : Nat) : Int))]) (rest := [.int (iI (sgD dv 3 (i &&& 7) (j &&& 7)))]) hC hml hl.1 (m_X10_turned hE H7 (hO.ext0 (zS_F hS)) _ (j &&& 7) (by have := Nat.and_le_right (n := j) (m := 7); omega)) q339 q1114 q1959 q338 nd_X10_turned rfl (z_k1 hE hC.w (hO.ext0 (zS_F hS)) ekd) rfl (Nat.le_of_ble_eq_true rfl) ⟨Nat.le_of_ble_eq_true rfl, Nat.le_of_ble_eq_true rfl⟩ ⟨zfit (k := 0) (z := 0) rfl rfl (by omega), zfit (k := 0) (z := 0) rfl rfl (by omega)⟩ dX10_sign_102) ⟨zad (k := 0) rfl (by omega), zad (k := 0) rfl (by omega)⟩ hS (fun _ z => z.elim) (fun r H8 locs hp hF hS1 => ?_)
          obtain ⟨_, rfl, rfl⟩ := hp
          have hP := zpk hP hF
          have hP : va_P G.1 zCl ([]) H8 := hP
          have hD : va_D (zA M0 H0) ([]) := hD
          have hS := hS1
          refine z_mul hx hb (z := (sgD dv 3 (i &&& 7) (j &&& 7)) * (trn 0 (j &&& 7))) dX10_sign_105 rfl ?_
          exact z_iret hC hrt hlk hQ hS ⟨zle (z := 0) rfl (by omega), zle (z := 0) rfl (by omega)⟩ ⟨_, rfl, sgD_3 (h := 8) rfl (by omega) (by omega)⟩ dX10_sign_106
      · exact absurd (by assumption) ci
    · refine lv_iload hx hb dX10_sign_41 (lv_at hl 8 rfl) ?_
      refine lv_iload hx hb dX10_sign_43 (lv_at hl 2 rfl) ?_
      refine z_and hx hb (n := j &&& 8) dX10_sign_45 rfl rfl rfl ?_
      refine z_zne (tgt := 61) hx hb dX10_sign_46 (by decide) (by omega) (fun c9 => ?_) (fun c9 => ?_)
      · refine lv_iload_n hx hb dX10_sign_61 rfl (lv_at hl 7 rfl) ?_
        refine lv_iload hx hb dX10_sign_62 (lv_at hl 2 rfl) ?_
        refine z_and hx hb (n := i &&& 8) dX10_sign_64 rfl rfl rfl ?_
        refine z_zne (tgt := 80) hx hb dX10_sign_65 (by decide) (by omega) (fun c10 => ?_) (fun c10 => ?_)
        · exact absurd ci (by assumption)
        · refine lv_aload_n hx hb dX10_sign_68 rfl (lv_at hl 4 rfl) ?_
          refine lv_aload_n hx hb dX10_sign_69 rfl (lv_at hl 5 rfl) ?_
          refine lv_iload hx hb dX10_sign_70 (lv_at hl 3 rfl) ?_
          refine lv_iload hx hb dX10_sign_72 (lv_at hl 0 rfl) ?_
          refine lv_iload hx hb dX10_sign_74 (lv_at hl 1 rfl) ?_
          refine z_go 0 0 (z_runVU (n := 4) (As := [.ref dl, .int (iI 3), .int (iI ((j &&& 7 : Nat) : Int)), .int (iI ((i &&& 7 : Nat) : Int))]) (rest := []) hC hml hl.1 (m_X10_sign_3 hE H0 (hO.ext0 (zS_F hS)) kd dl d dv da dm (j &&& 7) (i &&& 7) ekd (hL.ext0 (zS_F hS)) hdv (by omega) ⟨by have := Nat.and_le_right (n := j) (m := 7); omega, by have := Nat.and_le_right (n := i) (m := 7); omega⟩) q1112 q1113 q1958 q1111 nd_X10_sign rfl (z_k1 hE hC.w (hO.ext0 (zS_F hS)) ekd) rfl (Nat.le_of_ble_eq_true rfl) ⟨Nat.le_of_ble_eq_true rfl, Nat.le_of_ble_eq_true rfl⟩ ⟨zfit (k := 0) (z := 0) rfl rfl (by omega), zfit (k := 0) (z := 0) rfl rfl (by omega)⟩ dX10_sign_76) ⟨zad (k := 0) rfl (by omega), zad (k := 0) rfl (by omega)⟩ hS (fun _ z => z.elim) (fun r H11 locs hp hF hS1 => ?_)
          obtain ⟨_, rfl, rfl⟩ := hp
          have hP := zpk hP hF
          have hP : va_P G.1 zCl ([]) H11 := hP
          have hD : va_D (zA M0 H0) ([]) := hD
          have hS := hS1
          exact z_iret hC hrt hlk hQ hS ⟨zle (z := 0) rfl (by omega), zle (z := 0) rfl (by omega)⟩ ⟨_, rfl, sgD_2 (h := 8) rfl (by omega) (by omega)⟩ dX10_sign_79
      · refine lv_aload_n hx hb dX10_sign_49 rfl (lv_at hl 4 rfl) ?_
        refine lv_aload_n hx hb dX10_sign_50 rfl (lv_at hl 5 rfl) ?_
        refine lv_iload hx hb dX10_sign_51 (lv_at hl 3 rfl) ?_
        refine lv_iload hx hb dX10_sign_53 (lv_at hl 1 rfl) ?_
        refine lv_iload hx hb dX10_sign_55 (lv_at hl 0 rfl) ?_
        refine z_go 0 0 (z_runVU (n := 4) (As := [.ref dl, .int (iI 3), .int (iI ((i &&& 7 : Nat) : Int)), .int (iI ((j &&& 7 : Nat) : Int))]) (rest := []) hC hml hl.1 (m_X10_sign_3 hE H0 (hO.ext0 (zS_F hS)) kd dl d dv da dm (i &&& 7) (j &&& 7) ekd (hL.ext0 (zS_F hS)) hdv (by omega) ⟨by have := Nat.and_le_right (n := i) (m := 7); omega, by have := Nat.and_le_right (n := j) (m := 7); omega⟩) q1112 q1113 q1958 q1111 nd_X10_sign rfl (z_k1 hE hC.w (hO.ext0 (zS_F hS)) ekd) rfl (Nat.le_of_ble_eq_true rfl) ⟨Nat.le_of_ble_eq_true rfl, Nat.le_of_ble_eq_true rfl⟩ ⟨zfit (k := 0) (z := 0) rfl rfl (by omega), zfit (k := 0) (z := 0) rfl rfl (by omega)⟩ dX10_sign_57) ⟨zad (k := 0) rfl (by omega), zad (k := 0) rfl (by omega)⟩ hS (fun _ z => z.elim) (fun r H12 locs hp hF hS1 => ?_)
        obtain ⟨_, rfl, rfl⟩ := hp
        have hP := zpk hP hF
        have hP : va_P G.1 zCl ([]) H12 := hP
        have hD : va_D (zA M0 H0) ([]) := hD
        have hS := hS1
        exact z_iret hC hrt hlk hQ hS ⟨zle (z := 0) rfl (by omega), zle (z := 0) rfl (by omega)⟩ ⟨_, rfl, sgD_1 (h := 8) rfl (by omega) (by omega)⟩ dX10_sign_60
  · exact absurd c1 (by decide)

