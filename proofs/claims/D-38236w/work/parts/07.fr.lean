/-! FRAME: the contracts' form, what holds of the start, rows over Int -/
set_option maxRecDepth 100000
def iI (z : Int) : Int32 := Int32.ofInt z
def lI (z : Int) : Int64 := Int64.ofInt z
theorem iI_add (a b : Int) : iI a + iI b = iI (a + b) := (Int32.ofInt_add a b).symm
theorem iI_sub (a b : Int) : iI a - iI b = iI (a - b) := (Int32.ofInt_sub a b).symm
theorem iI_mul (a b : Int) : iI a * iI b = iI (a * b) := (Int32.ofInt_mul a b).symm
theorem iI_neg (a : Int) : -iI a = iI (-a) := (Int32.ofInt_neg a).symm
abbrev zi (z : Int) : Prop := -2147483648 ≤ z ∧ z < 2147483648
theorem iI_toInt {z : Int} (h : zi z) : (iI z).toInt = z := Int32.toInt_ofInt_of_le (by have := h.1; omega) (by have := h.2; omega)
theorem iI_nat (n : Nat) : iI (n : Int) = nI n := Int32.ofInt_eq_ofNat
theorem iI_of (x : Int32) : ∃ z : Int, zi z ∧ x = iI z := ⟨x.toInt, ⟨Int32.le_toInt x, Int32.toInt_lt x⟩, (Int32.ofInt_toInt x).symm⟩
theorem iI_le {a b : Int} (ha : zi a) (hb : zi b) : iI a ≤ iI b ↔ a ≤ b := by rw [Int32.le_iff_toInt_le, iI_toInt ha, iI_toInt hb]
theorem iI_lt {a b : Int} (ha : zi a) (hb : zi b) : iI a < iI b ↔ a < b := by rw [Int32.lt_iff_toInt_lt, iI_toInt ha, iI_toInt hb]
theorem iI_eq {a b : Int} (ha : zi a) (hb : zi b) : iI a = iI b ↔ a = b := by rw [← Int32.toInt_inj, iI_toInt ha, iI_toInt hb]
theorem iI_0 : iI 0 = 0 := by decide
theorem iI_z0 {a : Int} (ha : zi a) : iI a = 0 ↔ a = 0 := by rw [← iI_0, iI_eq ha (by decide)]
theorem iI_l0 {a : Int} (ha : zi a) : iI a < 0 ↔ a < 0 := by rw [← iI_0, iI_lt ha (by decide)]
theorem iI_0l {a : Int} (ha : zi a) : 0 < iI a ↔ 0 < a := by rw [← iI_0, iI_lt (by decide) ha]
theorem iI_g0 {a : Int} (ha : zi a) : 0 ≤ iI a ↔ 0 ≤ a := by rw [← iI_0, iI_le (by decide) ha]
theorem iI_le0 {a : Int} (ha : zi a) : iI a ≤ 0 ↔ a ≤ 0 := by rw [← iI_0, iI_le ha (by decide)]
theorem iI_cl {k : Nat} (h : k < 2147483648) : (iI (k : Int)).toNatClampNeg = k := by rw [iI_nat]; exact nI_clamp h
theorem iI_in {k n : Nat} (h : k < n) (hn : n < 2147483648) : vp_in (iI (k : Int)) n := by rw [iI_nat]; exact vp_in_nI h hn
theorem iI_rem {a b : Int} (ha : zi a) (hb : zi b) : iI a - iI a / iI b * iI b = iI (Int.tmod a b) := by
  rw [← Int32.toInt_inj, rem_toInt, iI_toInt ha, iI_toInt hb]
  refine (iI_toInt ?_).symm
  by_cases h0 : b = 0
  · subst h0; rw [Int.tmod_zero]; exact ha
  · have h1 : (a.tmod b).natAbs = a.natAbs % b.natAbs := Int.natAbs_tmod a b
    have h2 : a.natAbs % b.natAbs < b.natAbs := Nat.mod_lt _ (by omega)
    have h3 : a.natAbs % b.natAbs ≤ a.natAbs := Nat.mod_le _ _
    have := hb.1; have := hb.2; have := ha.1; have := ha.2
    constructor <;> omega
theorem iI_div {a b : Int} (ha : zi a) (hb : zi b) (h : ¬ (a = -2147483648 ∧ b = -1)) : iI a / iI b = iI (Int.tdiv a b) := by
  rw [← Int32.toInt_inj, Kit.i32_div (by rw [iI_toInt ha, iI_toInt hb]; intro q; exact h ⟨by omega, q.2⟩), iI_toInt ha, iI_toInt hb]
  refine (iI_toInt ?_).symm
  have h1 : (a.tdiv b).natAbs = a.natAbs / b.natAbs := Int.natAbs_tdiv a b
  have h3 : a.natAbs / b.natAbs ≤ a.natAbs := Nat.div_le_self _ _
  have := hb.1; have := hb.2; have := ha.1; have := ha.2
  by_cases h4 : a = -2147483648
  · subst h4
    by_cases h5 : b.natAbs = 1
    · have : b = 1 := by omega
      subst this
      rw [Int.tdiv_one]; decide
    · have h6 : (-2147483648 : Int).natAbs / b.natAbs < 2147483648 := by
        by_cases h7 : b.natAbs = 0
        · rw [h7]; decide
        · exact Nat.div_lt_self (by decide) (by omega)
      constructor <;> omega
  · constructor <;> omega
theorem iI_and (a b : Nat) : iI (a : Int) &&& iI (b : Int) = iI ((a &&& b : Nat) : Int) := by
  rw [iI_nat, iI_nat, iI_nat]
  apply Int32.toBitVec_inj.mp
  show BitVec.ofNat 32 a &&& BitVec.ofNat 32 b = BitVec.ofNat 32 (a &&& b)
  simp
theorem iI_or (a b : Nat) : iI (a : Int) ||| iI (b : Int) = iI ((a ||| b : Nat) : Int) := by
  rw [iI_nat, iI_nat, iI_nat]
  apply Int32.toBitVec_inj.mp
  show BitVec.ofNat 32 a ||| BitVec.ofNat 32 b = BitVec.ofNat 32 (a ||| b)
  simp
theorem iI_xor (a b : Nat) : iI (a : Int) ^^^ iI (b : Int) = iI ((a ^^^ b : Nat) : Int) := by
  rw [iI_nat, iI_nat, iI_nat]
  apply Int32.toBitVec_inj.mp
  show BitVec.ofNat 32 a ^^^ BitVec.ofNat 32 b = BitVec.ofNat 32 (a ^^^ b)
  simp
theorem iI_sh31 : ∀ k, k < 32 → ((nI k &&& 31).toBitVec.smod 32).toNat = k := by decide +kernel
theorem iI_shl {a k : Nat} (hk : k < 32) (h : a * 2 ^ k < 2 ^ 32) : iI (a : Int) <<< (iI (k : Int) &&& 31) = iI ((a * 2 ^ k : Nat) : Int) := by
  rw [iI_nat, iI_nat, iI_nat]
  exact pk_shlN _ k (iI_sh31 k hk) h
theorem iI_shr {a k : Nat} (hk : k < 32) (h : a < 2147483648) : iI (a : Int) >>> (iI (k : Int) &&& 31) = iI ((a / 2 ^ k : Nat) : Int) := by
  rw [iI_nat, iI_nat, iI_nat]
  exact pk_shrN h _ k (iI_sh31 k hk)
theorem lI_add (a b : Int) : lI a + lI b = lI (a + b) := (Int64.ofInt_add a b).symm
theorem lI_mul (a b : Int) : lI a * lI b = lI (a * b) := (Int64.ofInt_mul a b).symm
theorem lI_of (x : Int64) : ∃ z : Int, x = lI z := ⟨x.toInt, (Int64.ofInt_toInt x).symm⟩
theorem lI_toInt {z : Int} (h : -9223372036854775808 ≤ z ∧ z < 9223372036854775808) : (lI z).toInt = z := Int64.toInt_ofInt_of_le (by have := h.1; omega) (by have := h.2; omega)
theorem iI_l {z : Int} (h : zi z) : (iI z).toInt64 = lI z := by
  apply Int64.toInt_inj.mp
  rw [Int32.toInt_toInt64, iI_toInt h, lI_toInt (by have := h.1; have := h.2; omega)]
/-! the constants of a run: classes, arrays' classes, addresses of what stands at the start -/
abbrev zG : Type := va_G × (Nat → Nat)
def zCl : List vw_C := [(RX1, TX1, 6), (RX2, TX2, 1), (RX3, TX3, 5), (RX4, TX4, 3), (RX5, TX5, 5), (RX6, TX6, 6), (RX7, TX7, 3), (RX8, TX8, 2), (RJ2, TJ2, 3), (RJ17, TJ17, 4), (RJ20, TJ20, 1), (RJ24, TJ24, 4), (RJ14, TJ14, 4)]
abbrev zTy (G : zG) : List (Nat × FieldType) := [(G.2 0, .int), (G.2 1, .long), (G.2 2, .byte), (G.2 3, .object "java/lang/Object"), (G.2 4, .array .int)]
def zN (s0 : State) : Nat → Prop := fun q => s0.heap.size ≤ q
/-- what the start gives of statics and constants -/
def zSt (s0 : State) (G : zG) : Prop :=
  (va_Z "Versorhall$Kind" "DOUBLED" "LVersorhall$Kind;" (.ref (G.2 10)) (zN s0) s0 s0.heap ∧ va_Z "Versorhall$Kind" "BLADES" "LVersorhall$Kind;" (.ref (G.2 11)) (zN s0) s0 s0.heap ∧
    va_O "Versorhall$Kind$1" (G.2 10) (zN s0) s0 s0.heap ∧ va_O "Versorhall$Kind$2" (G.2 11) (zN s0) s0 s0.heap ∧
    va_OF "java/lang/Enum" "ordinal" "I" (.int (iI 0)) (G.2 10) (zN s0) s0 s0.heap ∧ va_OF "java/lang/Enum" "ordinal" "I" (.int (iI 1)) (G.2 11) (zN s0) s0 s0.heap ∧ G.2 10 ≠ G.2 11) ∧
  (va_Z "java/util/ArrayList" "DEFAULTCAPACITY_EMPTY_ELEMENTDATA" "[Ljava/lang/Object;" (.ref (G.2 12)) (zN s0) s0 s0.heap ∧ va_T (.object "java/lang/Object") (G.2 12) 0 (fun _ => .null) (zN s0) s0 s0.heap) ∧
  (va_Z "java/util/Optional" "EMPTY" "Ljava/util/Optional;" (.ref (G.2 13)) (zN s0) s0 s0.heap ∧ va_O "java/util/Optional" (G.2 13) (zN s0) s0 s0.heap ∧ va_OF "java/util/Optional" "value" "Ljava/lang/Object;" .null (G.2 13) (zN s0) s0 s0.heap) ∧
  (va_Z "java/lang/Integer$IntegerCache" "high" "I" (.int (iI 127)) (zN s0) s0 s0.heap ∧ va_Z "java/lang/Integer$IntegerCache" "cache" "[Ljava/lang/Integer;" (.ref (G.2 14)) (zN s0) s0 s0.heap ∧
    va_T (.object "java/lang/Integer") (G.2 14) 256 (fun k => .ref (G.2 (1000 + k))) (zN s0) s0 s0.heap ∧ vb_C (fun k => G.2 (1000 + k)) (zN s0) s0 s0.heap) ∧
  va_Z "java/lang/String" "COMPACT_STRINGS" "Z" (.int (iI 1)) (zN s0) s0 s0.heap ∧
  (va_Z "java/lang/Integer" "DigitOnes" "[B" (.ref (G.2 15)) (zN s0) s0 s0.heap ∧ va_T .byte (G.2 15) 100 (fun k => .int (iI ((48 + k % 10 : Nat) : Int))) (zN s0) s0 s0.heap ∧
    va_Z "java/lang/Integer" "DigitTens" "[B" (.ref (G.2 16)) (zN s0) s0 s0.heap ∧ va_T .byte (G.2 16) 100 (fun k => .int (iI ((48 + k / 10 : Nat) : Int))) (zN s0) s0 s0.heap) ∧
  (vk_R "Versorhall$Element" 145 "0" (G.2 17) s0 ∧ vk_R "VersorhallModel" 205 "0" (G.2 17) s0 ∧ vk_R "VersorhallModel" 211 "" (G.2 18) s0 ∧
    vk_S 2 [1, 0] [[48], []] (fun i => G.2 (17 + i)) (fun i => G.2 (20 + i)) (zN s0) s0 s0.heap) ∧
  vx_Zq Bundle.tN "UNASSIGNED_STACK" Bundle.steD (zN s0) s0 s0.heap ∧ vx_Zq Bundle.tN "SUPPRESSED_SENTINEL" Bundle.listD (zN s0) s0 s0.heap
/-- the start -/
def zE (l : Launch) (s0 : State) (G : zG) : Prop :=
  (∃ a0 : Array Value, ∀ w ∈ lw_tbl, w.before a0 s0 = true) ∧ va_K G.1 zCl (zTy G) s0 ∧ l.stackTraces = false ∧ zSt s0 G ∧ (Cond.landsInDefault "Versorhall$Element" ⟨"Versorhall$Element", "quarter", "(I)F"⟩ ⟨"Versorhall$Weighed", "quarter", "(I)F"⟩).before #[] s0 = true ∧ (Cond.sameMethod "Versorhall$Element" "Versorhall$Weighed" "quarter" "(I)F").before #[] s0 = true ∧ (Cond.methodLink "Versorhall$Element" 127 ⟨"Versorhall$Element", "quarter", "(I)F"⟩).before #[] s0 = true
/-- H is a heap that the start's cells stand in as they were -/
def zO (s0 : State) (H : Heap) : Prop := s0.heap.size ≤ H.size ∧ ∀ q : Nat, q < s0.heap.size → H[q]? = s0.heap[q]?
/-! a contract's start and end -/
def zP (s0 : State) (av : List Value) (H : Heap) : Array Value → State → Prop := fun v U => v = av.toArray ∧ U.heap = H ∧ s0.WarmedH U.vm
def zF (M : Nat → Prop) (H H1 : Heap) : Prop := H.size ≤ H1.size ∧ ∀ q : Nat, q < H.size → ¬ M q → H1[q]? = H[q]?
def zA (M : Nat → Prop) (H : Heap) : Nat → Prop := fun q => M q ∨ H.size ≤ q
def zQ (H : Heap) (M : Nat → Prop) (P : Option Value → Heap → Prop) : Array Value → State → Outcome → State → Prop := fun _ _ oc t => ∃ r : Option Value, oc = .returned r ∧ P r t.heap ∧ zF M H t.heap
def zX (H : Heap) (M : Nat → Prop) (PX : String → Heap → Prop) : String → State → State → Prop := fun E _ t => PX E t.heap ∧ zF M H t.heap
abbrev zM (l : Launch) (s0 : State) (y : MethodName) (cc : ByteArray) (maxL : Nat) (ret : Option FieldType) (rm : Room) (av : List Value) (H : Heap) (M : Nat → Prop) (P : Option Value → Heap → Prop) : Prop :=
  Met l y (ws_ y cc maxL ret) rm (zP s0 av H) (zQ H M P) rm.cells rm.slots (zA M H)
abbrev zMX (l : Launch) (s0 : State) (y : MethodName) (cc : ByteArray) (maxL : Nat) (ret : Option FieldType) (rm : Room) (av : List Value) (H : Heap) (M : Nat → Prop) (P : Option Value → Heap → Prop) (PX : String → Heap → Prop) : Prop :=
  vx_Met l y (ws_ y cc maxL ret) rm (zP s0 av H) (zQ H M P) (zX H M PX) rm.cells rm.slots (zA M H)
/-- results by their kind -/
def ri (P : Int → Heap → Prop) : Option Value → Heap → Prop := fun r h => ∃ z : Int, r = some (.int (iI z)) ∧ P z h
def rr (P : Nat → Heap → Prop) : Option Value → Heap → Prop := fun r h => ∃ q : Nat, r = some (.ref q) ∧ P q h
def rv (P : Heap → Prop) : Option Value → Heap → Prop := fun r h => r = none ∧ P h
def rl (P : Int → Heap → Prop) : Option Value → Heap → Prop := fun r h => ∃ z : Int, r = some (.long (lI z)) ∧ P z h
def rf (P : UInt32 → Heap → Prop) : Option Value → Heap → Prop := fun r h => ∃ z : UInt32, r = some (.float z) ∧ P z h
def rd (P : UInt64 → Heap → Prop) : Option Value → Heap → Prop := fun r h => ∃ z : UInt64, r = some (.double z) ∧ P z h
abbrev M0 : Nat → Prop := fun _ => False
theorem zP_blind {s0 : State} {av : List Value} {H : Heap} : FrameBlind (zP s0 av H) := fun _ _ _ _ q => ⟨q.1, q.2.1, q.2.2⟩
theorem zF.rf {M : Nat → Prop} {H : Heap} : zF M H H := ⟨Nat.le_refl _, fun _ _ _ => rfl⟩
theorem zF.trans {M : Nat → Prop} {H H1 H2 : Heap} (h : zF M H H1) (h2 : zF M H1 H2) : zF M H H2 := ⟨Nat.le_trans h.1 h2.1, fun q a b => (h2.2 q (Nat.lt_of_lt_of_le a h.1) b).trans (h.2 q a b)⟩
theorem zF.mono {M N : Nat → Prop} {H H1 : Heap} (h : zF M H H1) (hMN : ∀ q, q < H.size → M q → N q) : zF N H H1 := ⟨h.1, fun q a b => h.2 q a (fun z => b (hMN q a z))⟩
theorem zF.of0 {N : Nat → Prop} {H H1 : Heap} (h : zF M0 H H1) : zF N H H1 := h.mono (fun _ _ z => z.elim)
theorem zO.ext {s0 : State} {M : Nat → Prop} {H H1 : Heap} (h : zO s0 H) (hF : zF M H H1) (hM : ∀ q, M q → s0.heap.size ≤ q) : zO s0 H1 := ⟨Nat.le_trans h.1 hF.1, fun q a => (hF.2 q (Nat.lt_of_lt_of_le a h.1) (fun z => by have := hM q z; omega)).trans (h.2 q a)⟩
theorem zO.ext0 {s0 : State} {H H1 : Heap} (h : zO s0 H) (hF : zF M0 H H1) : zO s0 H1 := h.ext hF (fun _ z => z.elim)
theorem zS_F {M : Nat → Prop} {H0 H : Heap} {locs : List Loc} (h : va_S (zA M H0) H0 H locs) : zF M H0 H := ⟨h.1, fun q a b => h.2.1 q a (fun z => z.elim b (fun z => by omega))⟩
/-- a cell and what it holds -/
abbrev zAt (G : zG) (a : Nat) (e : va_E) (H : Heap) : Prop := va_at G.1 zCl (a, e) H
abbrev zI (G : zG) (n : Nat) (v : Nat → Int) : va_E := .inl (G.2 0, n, .inl (fun j => iI (v j)))
abbrev zJ (G : zG) (n : Nat) (v : Nat → Int) : va_E := .inl (G.2 1, n, .inr (.inl (fun j => lI (v j))))
abbrev zB (G : zG) (n : Nat) (v : Nat → Int) : va_E := .inl (G.2 2, n, .inl (fun j => iI (v j)))
abbrev zR (G : zG) (n : Nat) (f : Nat → Option Nat) : va_E := .inl (G.2 3, n, .inr (.inr (.inr (.inr f))))
abbrev zII (G : zG) (n : Nat) (f : Nat → Option Nat) : va_E := .inl (G.2 4, n, .inr (.inr (.inr (.inr f))))
abbrev zOb (c : Nat) (fs : List Value) : va_E := .inr (c, fs)
theorem zAt.ext {G : zG} {a : Nat} {e : va_E} {M : Nat → Prop} {H H1 : Heap} (h : zAt G a e H) (hF : zF M H H1) (hM : ¬ M a) : zAt G a e H1 := h.kept (hF.2 a h.lt hM)
theorem zAt.ext0 {G : zG} {a : Nat} {e : va_E} {H H1 : Heap} (h : zAt G a e H) (hF : zF M0 H H1) : zAt G a e H1 := h.ext hF id
theorem zP1 {G : zG} {a : Nat} {e : va_E} {H : Heap} (h : zAt G a e H) : va_P G.1 zCl [(a, e)] H := by
  intro k q hk
  cases k with
  | zero => cases hk; exact h
  | succ k => cases hk
/-- an int array's values count below its length alone -/
theorem arrV_congr {c : ClassId} {n : Nat} {f g : Nat → Value} (h : ∀ j, j < n → f j = g j) : arrV c n f = arrV c n g := by
  unfold arrV
  congr 1
  first
  | (apply Array.ext_getElem?; intro j; simp [Array.getElem?_ofFn]; intro hj; exact h j hj)
  | (apply Array.ext <;> simp; intro j hj; exact h j hj)
theorem zI_congr {G : zG} {a n : Nat} {v w : Nat → Int} {H : Heap} (h : zAt G a (zI G n v) H) (hvw : ∀ j, j < n → v j = w j) : zAt G a (zI G n w) H := by
  have h1 : H[a]? = some (vp_cell (G.2 0) (n, .inl (fun j => iI (v j)))) := h
  show H[a]? = some (vp_cell (G.2 0) (n, .inl (fun j => iI (w j))))
  rw [h1, vp_cell_i, vp_cell_i]
  congr 1
  exact arrV_congr (fun j hj => by rw [hvw j hj])
