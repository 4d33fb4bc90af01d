/-! WHAT THE METHODS COMPUTE: rows of numbers modulo p -/
def sm : Nat → (Nat → Int) → Int
  | 0, _ => 0
  | n + 1, f => sm n f + f n
def b2i (b : Bool) : Int := if b then 1 else 0
def tmV (p : Int) (n : Nat) (sg : Nat → Nat → Int) (v w : Nat → Int) : Nat → Int := fun k => sm n (fun i => v i * w (i ^^^ k) * sg i (i ^^^ k)) % p
def plV (p t : Int) (v w : Nat → Int) : Nat → Int := fun k => (v k + t * w k) % p
def scV (p t : Int) (v : Nat → Int) : Nat → Int := fun k => (t * v k) % p
def bitc (k : Nat) : Nat := k % 2 + k / 2 % 2 + k / 4 % 2 + k / 8 % 2
def trn (kd k : Nat) : Int := if kd = 0 then (if k = 0 then 1 else -1) else if bitc k % 4 = 1 ∨ bitc k % 4 = 2 then -1 else 1
def cjV (p : Int) (kd : Nat) (v : Nat → Int) : Nat → Int := fun k => (trn kd k * v k) % p
def oneV : Nat → Int := fun k => if k = 0 then 1 else 0
def pwV (p : Int) (n : Nat) (sg : Nat → Nat → Int) (v : Nat → Int) : Nat → Nat → Int
  | 0 => oneV
  | k + 1 => tmV p n sg (pwV p n sg v k) v
def szV (v : Nat → Int) : Nat → Nat
  | 0 => 0
  | n + 1 => szV v n + (if v n = 0 then 0 else 1)
def zeV (n : Nat) (v : Nat → Int) : Bool := szV v n == 0
def paV (n : Nat) (v : Nat → Int) : Bool := szV v n == 0 || (szV v n == 1 && v 0 != 0)
/-- the smallest number whose product with z is 1 -/
def ivS (p z : Int) : Int := if (1 * z) % p = 1 then 1 else if (2 * z) % p = 1 then 2 else if (3 * z) % p = 1 then 3 else if (4 * z) % p = 1 then 4 else if (5 * z) % p = 1 then 5 else 6
/-- the first place from k on, of f places, where P holds; -1 -/
def fst (P : Nat → Bool) : Nat → Nat → Int
  | 0, _ => -1
  | f + 1, k => if P k then k else fst P f (k + 1)
abbrev pr357 (p : Int) : Prop := p = 3 ∨ p = 5 ∨ p = 7
/-- the numbers of a row -/
def rw_ok (p : Int) (n : Nat) (v : Nat → Int) : Prop := ∀ j, j < n → 0 ≤ v j ∧ v j < p
theorem md_in {p : Int} (hp : pr357 p) (z : Int) : 0 ≤ z % p ∧ z % p < p := by
  rcases hp with rfl | rfl | rfl <;> omega
theorem tmV_ok {p : Int} (hp : pr357 p) (n : Nat) (sg : Nat → Nat → Int) (v w : Nat → Int) : rw_ok p n (tmV p n sg v w) := fun _ _ => md_in hp _
theorem plV_ok {p : Int} (hp : pr357 p) (n : Nat) (t : Int) (v w : Nat → Int) : rw_ok p n (plV p t v w) := fun _ _ => md_in hp _
theorem scV_ok {p : Int} (hp : pr357 p) (n : Nat) (t : Int) (v : Nat → Int) : rw_ok p n (scV p t v) := fun _ _ => md_in hp _
theorem cjV_ok {p : Int} (hp : pr357 p) (n kd : Nat) (v : Nat → Int) : rw_ok p n (cjV p kd v) := fun _ _ => md_in hp _
theorem oneV_ok {p : Int} (hp : pr357 p) (n : Nat) : rw_ok p n oneV := fun j _ => by unfold oneV; rcases hp with rfl | rfl | rfl <;> split <;> omega
theorem pwV_ok {p : Int} (hp : pr357 p) (n : Nat) (sg : Nat → Nat → Int) (v : Nat → Int) : ∀ k, rw_ok p n (pwV p n sg v k)
  | 0 => oneV_ok hp n
  | k + 1 => tmV_ok hp n sg _ _
theorem trn_in (kd k : Nat) : trn kd k = 1 ∨ trn kd k = -1 := by unfold trn; split <;> split <;> omega
theorem szV_le (v : Nat → Int) : ∀ n, szV v n ≤ n
  | 0 => Nat.le_refl 0
  | n + 1 => by have := szV_le v n; simp only [szV]; split <;> omega
theorem szV_congr {v w : Nat → Int} : ∀ {n : Nat}, (∀ j, j < n → v j = w j) → szV v n = szV w n
  | 0, _ => rfl
  | n + 1, h => by simp only [szV]; rw [szV_congr (fun j hj => h j (by omega)), h n (by omega)]
theorem sm_congr {f g : Nat → Int} : ∀ {n : Nat}, (∀ j, j < n → f j = g j) → sm n f = sm n g
  | 0, _ => rfl
  | n + 1, h => by simp only [sm]; rw [sm_congr (fun j hj => h j (by omega)), h n (by omega)]
theorem md_le {p z : Int} (hp : pr357 p) (h : 0 ≤ z ∧ z < p) : z % p = z := Int.emod_eq_of_lt h.1 h.2
/-- an inverse is there -/
theorem iv_ex {p z : Int} (hp : pr357 p) (hz : z % p ≠ 0) : (ivS p z * z) % p = 1 ∧ 1 ≤ ivS p z ∧ ivS p z ≤ 6 ∧ ∀ j, 1 ≤ j → j < ivS p z → (j * z) % p ≠ 1 := by
  have key : ∀ j : Int, (j * z) % p = (j * (z % p)) % p := fun j => by rw [Int.mul_emod, Int.mul_emod j (z % p), Int.emod_emod_of_dvd _ (Int.dvd_refl p)]
  have hr := md_in hp z
  unfold ivS
  simp only [key]
  generalize z % p = r at hz hr ⊢
  rcases hp with rfl | rfl | rfl
  · rcases (show r = 1 ∨ r = 2 by omega) with rfl | rfl <;> refine ⟨by decide, by decide, by decide, fun j h1 h2 => ?_⟩ <;> simp at h2 <;> omega
  · rcases (show r = 1 ∨ r = 2 ∨ r = 3 ∨ r = 4 by omega) with rfl | rfl | rfl | rfl <;> refine ⟨by decide, by decide, by decide, fun j h1 h2 => ?_⟩ <;> simp at h2 <;> omega
  · rcases (show r = 1 ∨ r = 2 ∨ r = 3 ∨ r = 4 ∨ r = 5 ∨ r = 6 by omega) with rfl | rfl | rfl | rfl | rfl | rfl <;> refine ⟨by decide, by decide, by decide, fun j h1 h2 => ?_⟩ <;> simp at h2 <;> omega
