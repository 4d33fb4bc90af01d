/-! WHAT THE PUBLIC OPERATIONS ANSWER: named; an answer is one alone -/
set_option maxRecDepth 100000
def R_prime (σ : St) (z : Int) : Int → St → Prop := (fun y σ' => pr357 z ∧ St_na σ = 0 ∧ σ' = stP σ z ∧ y = St_p σ)
def X_prime (σ : St) (z : Int) : String → Prop := (XPr σ z)
def R_algebra (σ : St) (z : Int) : Int → St → Prop := (fun y σ' => (0 ≤ z ∧ z ≤ 1) ∧ St_na σ < 4 ∧ σ' = stAl σ z.toNat ∧ y = (St_na σ : Nat))
def X_algebra (σ : St) (z : Int) : String → Prop := (XAlg σ z)
def R_dial (σ : St) (i : Int) (z : Int) : Int → St → Prop := (fun y σ' => ∃ k : Nat, (i = k ∧ k < St_na σ) ∧ (0 < z ∧ z < St_p σ) ∧ (St_d σ k < 4 ∧ ecV σ k (St_ne σ) = 0) ∧ σ' = stDi σ k z ∧ y = (2 ^ (St_d σ k + 1) : Nat))
def X_dial (σ : St) (i : Int) (z : Int) : String → Prop := (XDi σ i z)
def R_element (σ : St) (i : Int) : Int → St → Prop := (fun y σ' => ∃ k : Nat, (i = k ∧ k < St_na σ) ∧ St_ne σ < 10 ∧ σ' = stNew σ k ∧ y = (St_ne σ : Nat))
def X_element (σ : St) (i : Int) : String → Prop := (XNew σ i)
def R_set (σ : St) (i : Int) (u : Int) (z : Int) : Int → St → Prop := (fun y σ' => ∃ a c : Nat, (i = a ∧ a < St_ne σ) ∧ (u = c ∧ c < St_n σ (St_ea σ a)) ∧ (0 ≤ z ∧ z < St_p σ) ∧ σ' = stEl σ a (va_up (St_ev σ a) c z) ∧ y = St_ev σ a c)
def X_set (σ : St) (i : Int) (u : Int) (z : Int) : String → Prop := (XSet σ i u z)
def R_sum (σ : St) (i : Int) (j : Int) (k : Int) : Int → St → Prop := (fun y σ' => ∃ a b c : Nat, (i = a ∧ a < St_ne σ) ∧ (j = b ∧ b < St_ne σ) ∧ (k = c ∧ c < St_ne σ) ∧ (St_ea σ a = St_ea σ b ∧ St_ea σ a = St_ea σ c) ∧ σ' = stEl σ a (plV (St_p σ) 1 (St_ev σ b) (St_ev σ c)) ∧ y = (szV (plV (St_p σ) 1 (St_ev σ b) (St_ev σ c)) (St_n σ (St_ea σ a)) : Nat))
def X_sum (σ : St) (i : Int) (j : Int) (k : Int) : String → Prop := (X3e σ i j k)
def R_product (σ : St) (i : Int) (j : Int) (k : Int) : Int → St → Prop := (fun y σ' => ∃ a b c : Nat, (i = a ∧ a < St_ne σ) ∧ (j = b ∧ b < St_ne σ) ∧ (k = c ∧ c < St_ne σ) ∧ (St_ea σ a = St_ea σ b ∧ St_ea σ a = St_ea σ c) ∧ σ' = stEl σ a (tmV (St_p σ) (St_n σ (St_ea σ a)) (St_sg σ (St_ea σ a)) (St_ev σ b) (St_ev σ c)) ∧ y = (szV (tmV (St_p σ) (St_n σ (St_ea σ a)) (St_sg σ (St_ea σ a)) (St_ev σ b) (St_ev σ c)) (St_n σ (St_ea σ a)) : Nat))
def X_product (σ : St) (i : Int) (j : Int) (k : Int) : String → Prop := (X3e σ i j k)
def R_scale (σ : St) (i : Int) (j : Int) (t : Int) : Int → St → Prop := (fun y σ' => ∃ a b : Nat, (i = a ∧ a < St_ne σ) ∧ (j = b ∧ b < St_ne σ) ∧ St_ea σ a = St_ea σ b ∧ (0 ≤ t ∧ t < St_p σ) ∧ σ' = stEl σ a (scV (St_p σ) t (St_ev σ b)) ∧ y = (szV (scV (St_p σ) t (St_ev σ b)) (St_n σ (St_ea σ a)) : Nat))
def X_scale (σ : St) (i : Int) (j : Int) (t : Int) : String → Prop := (X2e σ i j (0 ≤ t ∧ t < St_p σ))
def R_conjugate (σ : St) (i : Int) (j : Int) : Int → St → Prop := (fun y σ' => ∃ a b : Nat, (i = a ∧ a < St_ne σ) ∧ (j = b ∧ b < St_ne σ) ∧ St_ea σ a = St_ea σ b ∧ σ' = stEl σ a (cjV (St_p σ) (St_kd σ (St_ea σ a)) (St_ev σ b)) ∧ y = (szV (cjV (St_p σ) (St_kd σ (St_ea σ a)) (St_ev σ b)) (St_n σ (St_ea σ a)) : Nat))
def X_conjugate (σ : St) (i : Int) (j : Int) : String → Prop := (X2e σ i j True)
def R_power (σ : St) (i : Int) (j : Int) (t : Int) : Int → St → Prop := (fun y σ' => ∃ a b : Nat, (i = a ∧ a < St_ne σ) ∧ (j = b ∧ b < St_ne σ) ∧ St_ea σ a = St_ea σ b ∧ (0 ≤ t ∧ t ≤ 60) ∧ σ' = stEl σ a (pwV (St_p σ) (St_n σ (St_ea σ a)) (St_sg σ (St_ea σ a)) (St_ev σ b) t.toNat) ∧ y = (szV (pwV (St_p σ) (St_n σ (St_ea σ a)) (St_sg σ (St_ea σ a)) (St_ev σ b) t.toNat) (St_n σ (St_ea σ a)) : Nat))
def X_power (σ : St) (i : Int) (j : Int) (t : Int) : String → Prop := (X2e σ i j (0 ≤ t ∧ t ≤ 60))
def R_invert (σ : St) (i : Int) (j : Int) : Int → St → Prop := (fun y σ' => ∃ a b : Nat, (i = a ∧ a < St_ne σ) ∧ (j = b ∧ b < St_ne σ) ∧ St_ea σ a = St_ea σ b ∧ (inOk (St_p σ) (St_n σ (St_ea σ a)) (St_kd σ (St_ea σ a)) (St_sg σ (St_ea σ a)) (St_ev σ b)) ∧ σ' = stEl σ a (inV (St_p σ) (St_n σ (St_ea σ a)) (St_kd σ (St_ea σ a)) (St_sg σ (St_ea σ a)) (St_ev σ b)) ∧ y = (szV (inV (St_p σ) (St_n σ (St_ea σ a)) (St_kd σ (St_ea σ a)) (St_sg σ (St_ea σ a)) (St_ev σ b)) (St_n σ (St_ea σ a)) : Nat))
def X_invert (σ : St) (i : Int) (j : Int) : String → Prop := (X2s σ i j (fun _ b => ¬ inOk (St_p σ) (St_n σ (St_ea σ b)) (St_kd σ (St_ea σ b)) (St_sg σ (St_ea σ b)) (St_ev σ b)))
def R_series (σ : St) (i : Int) (j : Int) : Int → St → Prop := (fun y σ' => ∃ a b : Nat, (i = a ∧ a < St_ne σ) ∧ (j = b ∧ b < St_ne σ) ∧ St_ea σ a = St_ea σ b ∧ (enV (St_p σ) (St_n σ (St_ea σ a)) (St_sg σ (St_ea σ a)) (St_ev σ b) ≠ -1) ∧ σ' = stEl σ a (suV (St_p σ) (St_n σ (St_ea σ a)) (St_sg σ (St_ea σ a)) (St_ev σ b) (enV (St_p σ) (St_n σ (St_ea σ a)) (St_sg σ (St_ea σ a)) (St_ev σ b)).toNat) ∧ y = (szV (suV (St_p σ) (St_n σ (St_ea σ a)) (St_sg σ (St_ea σ a)) (St_ev σ b) (enV (St_p σ) (St_n σ (St_ea σ a)) (St_sg σ (St_ea σ a)) (St_ev σ b)).toNat) (St_n σ (St_ea σ a)) : Nat))
def X_series (σ : St) (i : Int) (j : Int) : String → Prop := (X2s σ i j (fun _ b => ¬ (enV (St_p σ) (St_n σ (St_ea σ b)) (St_sg σ (St_ea σ b)) (St_ev σ b) ≠ -1)))
def R_killer (σ : St) (i : Int) (j : Int) : Int → St → Prop := (fun y σ' => ∃ (a b c : Nat) (w : Nat → Int), (i = a ∧ a < St_ne σ) ∧ (j = b ∧ b < St_ne σ) ∧ St_ea σ a = St_ea σ b ∧ KIL (St_p σ) (St_n σ (St_ea σ a)) (mxV (St_p σ) (St_ev σ b) (St_sg σ (St_ea σ a)) 1) c w ∧ σ' = stEl σ a w ∧ y = (c : Nat))
def X_killer (σ : St) (i : Int) (j : Int) : String → Prop := (X2s σ i j (fun _ b => ∀ c, c < St_n σ (St_ea σ b) → ¬ freeCol (St_p σ) (St_n σ (St_ea σ b)) (mxV (St_p σ) (St_ev σ b) (St_sg σ (St_ea σ b)) 1) c))
def R_hang (σ : St) (i : Int) : Int → St → Prop := (fun y σ' => ∃ a : Nat, (i = a ∧ a < St_ne σ) ∧ XHa σ a ∧ σ' = stMi σ (St_ea σ a) (St_ev σ a) ∧ y = (St_nm σ (St_ea σ a) + 1 : Nat))
def X_hang (σ : St) (i : Int) : String → Prop := (X1s σ i (fun a => ¬ XHa σ a))
def R_clear (σ : St) (i : Int) : Int → St → Prop := (fun y σ' => ∃ k : Nat, (i = k ∧ k < St_na σ) ∧ σ' = (if St_nm σ k = 0 then stKn σ (St_kn σ + 1) else stCl σ k) ∧ y = (St_nm σ k : Nat))
def X_clear (σ : St) (i : Int) : String → Prop := (fun E => E = IOB ∧ ¬ inA σ i)
def R_mirror (σ : St) (i : Int) (j : Int) (k : Int) : Int → St → Prop := (fun y σ' => ∃ a b c : Nat, (i = a ∧ a < St_ne σ) ∧ (j = b ∧ b < St_ne σ) ∧ (k = c ∧ c < St_ne σ) ∧ (St_ea σ a = St_ea σ b ∧ St_ea σ a = St_ea σ c) ∧ 0 < sqV (St_p σ) (St_n σ (St_ea σ a)) (St_kd σ (St_ea σ a)) (St_sg σ (St_ea σ a)) (St_ev σ b) ∧ σ' = stEl σ a (mirV (St_p σ) (St_n σ (St_ea σ a)) (St_kd σ (St_ea σ a)) (St_sg σ (St_ea σ a)) (St_ev σ b) (St_ev σ c)) ∧ y = (szV (mirV (St_p σ) (St_n σ (St_ea σ a)) (St_kd σ (St_ea σ a)) (St_sg σ (St_ea σ a)) (St_ev σ b) (St_ev σ c)) (St_n σ (St_ea σ a)) : Nat))
def X_mirror (σ : St) (i : Int) (j : Int) (k : Int) : String → Prop := (X3s σ i j k (fun b => ¬ 0 < sqV (St_p σ) (St_n σ (St_ea σ b)) (St_kd σ (St_ea σ b)) (St_sg σ (St_ea σ b)) (St_ev σ b)))
def R_turn (σ : St) (i : Int) (j : Int) : Int → St → Prop := (fun y σ' => ∃ a b : Nat, (i = a ∧ a < St_ne σ) ∧ (j = b ∧ b < St_ne σ) ∧ St_ea σ a = St_ea σ b ∧ St_kd σ (St_ea σ a) = 1 ∧ σ' = stEl σ a (tuV σ (St_ea σ a) (St_ev σ b) (St_nm σ (St_ea σ a))) ∧ y = (szV (tuV σ (St_ea σ a) (St_ev σ b) (St_nm σ (St_ea σ a))) (St_n σ (St_ea σ a)) : Nat))
def X_turn (σ : St) (i : Int) (j : Int) : String → Prop := (X2s σ i j (fun _ b => St_kd σ (St_ea σ b) ≠ 1))
def R_versor (σ : St) (i : Int) : Int → St → Prop := (fun y σ' => ∃ a : Nat, (i = a ∧ a < St_ne σ) ∧ St_kd σ (St_ea σ a) = 1 ∧ σ' = stEl σ a (veV σ (St_ea σ a) (St_nm σ (St_ea σ a))) ∧ y = (szV (veV σ (St_ea σ a) (St_nm σ (St_ea σ a))) (St_n σ (St_ea σ a)) : Nat))
def X_versor (σ : St) (i : Int) : String → Prop := (X1s σ i (fun a => St_kd σ (St_ea σ a) ≠ 1))
def R_run (σ : St) (i : Int) (w : Int) : Int → St → Prop := (fun y σ' => ∃ (a : Nat) (v : Nat → Nat → Int), (i = a ∧ a < St_ne σ) ∧ 0 ≤ w ∧ rnV σ (St_ea σ a) 10 w.toNat 0 (fun _ _ => 0) = some (1, v) ∧ σ' = stEl σ a (v 0) ∧ y = (szV (v 0) (St_n σ (St_ea σ a)) : Nat))
def X_run (σ : St) (i : Int) (w : Int) : String → Prop := (fun E => (E = IOB ∧ ¬ inE σ i) ∨ (E = IAE ∧ inE σ i ∧ ¬ (0 ≤ w ∧ ∃ v, rnV σ (St_ea σ i.toNat) 10 w.toNat 0 (fun _ _ => 0) = some (1, v))))
def R_at (σ : St) (i : Int) (u : Int) : Int → St → Prop := (fun y σ' => σ' = σ ∧ (∃ a c : Nat, (i = a ∧ a < St_ne σ) ∧ (u = c ∧ c < St_n σ (St_ea σ a)) ∧ y = St_ev σ a c))
def X_at (σ : St) (i : Int) (u : Int) : String → Prop := (fun E => X1e σ i (0 ≤ u ∧ u < (St_n σ (St_ea σ i.toNat) : Nat)) E)
def R_ofElement (σ : St) (i : Int) (w : Int) : Int → St → Prop := (fun y σ' => σ' = σ ∧ (∃ a t : Nat, (i = a ∧ a < St_ne σ) ∧ (w = t ∧ t ≤ 9) ∧ y = oeV σ a t))
def X_ofElement (σ : St) (i : Int) (w : Int) : String → Prop := (fun E => X1ea σ i (0 ≤ w ∧ w ≤ 9) E)
def X_text (σ : St) (i : Int) : String → Prop := (fun E => E = IOB ∧ ¬ inE σ i)
def R_ofAlgebra (σ : St) (i : Int) (w : Int) : Int → St → Prop := (fun y σ' => σ' = σ ∧ (∃ k t : Nat, (i = k ∧ k < St_na σ) ∧ (w = t ∧ t ≤ 5) ∧ y = oaV σ k t))
def X_ofAlgebra (σ : St) (i : Int) (w : Int) : String → Prop := (fun E => X1aa σ i (0 ≤ w ∧ w ≤ 5) E)
def R_sign (σ : St) (i : Int) (u : Int) (v : Int) : Int → St → Prop := (fun y σ' => σ' = σ ∧ (∃ k a b : Nat, (i = k ∧ k < St_na σ) ∧ (u = a ∧ a < St_n σ k) ∧ (v = b ∧ b < St_n σ k) ∧ y = St_sg σ k a b))
def X_sign (σ : St) (i : Int) (u : Int) (v : Int) : String → Prop := (fun E => X1a σ i ((0 ≤ u ∧ u < (St_n σ i.toNat : Nat)) ∧ (0 ≤ v ∧ v < (St_n σ i.toNat : Nat))) E)
def R_breaks (σ : St) (i : Int) (u : Int) : Int → St → Prop := (fun y σ' => σ' = σ ∧ (∃ k a : Nat, (i = k ∧ k < St_na σ) ∧ (u = a ∧ a < 4) ∧ y = brV (St_p σ) (St_sg σ k) (St_n σ k) a))
def X_breaks (σ : St) (i : Int) (u : Int) : String → Prop := (fun E => X1a σ i (0 ≤ u ∧ u < 4) E)
def R_lean (σ : St) (i : Int) : UInt64 → St → Prop := (fun y σ' => σ' = σ ∧ (∃ a : Nat, (i = a ∧ a < St_ne σ) ∧ y = FP.f2d (fq (lnV (St_p σ) (St_n σ (St_ea σ a)) (St_ev σ a)))))
def X_lean (σ : St) (i : Int) : String → Prop := (fun E => E = IOB ∧ ¬ inE σ i)
def R_many (σ : St) (w : Int) : Int → St → Prop := (fun y σ' => σ' = σ ∧ (∃ t : Nat, (w = t ∧ t ≤ 7) ∧ y = myV σ t))
def X_many (σ : St) (w : Int) : String → Prop := (fun E => E = "java/lang/IllegalArgumentException" ∧ ¬ (0 ≤ w ∧ w ≤ 7))
def R_apart (σ : St) (i : Int) (j : Int) : Int → St → Prop := (fun y σ' => σ' = σ ∧ (∃ a b : Nat, (i = a ∧ a < St_ne σ) ∧ (j = b ∧ b < St_ne σ) ∧ St_ea σ a = St_ea σ b ∧ y = (szV (apV σ a b) (St_n σ (St_ea σ a)) : Nat)))
def X_apart (σ : St) (i : Int) (j : Int) : String → Prop := (fun E => X2e σ i j True E)
def R_row (σ : St) (i : Int) (z : Int) : Int → St → Prop := (fun y σ' => σ' = σ ∧ (∃ k : Nat, (i = k ∧ k < St_na σ) ∧ (0 ≤ z ∧ z < St_p σ) ∧ y = rwV (St_p σ) (St_d σ k) (St_dv σ k) z))
def X_row (σ : St) (i : Int) (z : Int) : String → Prop := (fun E => X1aa σ i (0 ≤ z ∧ z < St_p σ) E)
def R_match (σ : St) (i : Int) (j : Int) : Int → St → Prop := (fun y σ' => σ' = σ ∧ (∃ k k2 : Nat, (i = k ∧ k < St_na σ) ∧ (j = k2 ∧ k2 < St_na σ) ∧ y = mnw σ k k2))
def X_match (σ : St) (i : Int) (j : Int) : String → Prop := (fun E => E = IOB ∧ ¬ (inA σ i ∧ inA σ j))
def R_scaleOf (σ : St) (i : Int) (j : Int) (g : Int) : Int → St → Prop := (fun y σ' => σ' = σ ∧ (∃ k k2 : Nat, (i = k ∧ k < St_na σ) ∧ (j = k2 ∧ k2 < St_na σ) ∧ y = soV σ k k2 g))
def X_scaleOf (σ : St) (i : Int) (j : Int) (g : Int) : String → Prop := (fun E => E = IOB ∧ ¬ (inA σ i ∧ inA σ j))
theorem Xu_set {σ : St} {i : Int} {u : Int} {z : Int} {E E' : String} (h : X_set σ i u z E) (h' : X_set σ i u z E') : E = E' := by
  simp only [X_set, X3e, X2e, X2s, X3s, X1e, X1ea, X1a, X1aa, X1s, XPr, XSet, XNew, XAlg, XDi] at h h'
  rcases h with ⟨rfl, h⟩ | ⟨rfl, h⟩ | ⟨rfl, h⟩ <;> rcases h' with ⟨rfl, h'⟩ | ⟨rfl, h'⟩ | ⟨rfl, h'⟩
  · rfl
  · rfl
  · exact absurd h'.1 h
  · rfl
  · rfl
  · exact absurd h'.2.1 h.2
  · exact absurd h.1 h'
  · exact absurd h.2.1 h'.2
  · rfl
theorem Xu_mirror {σ : St} {i : Int} {j : Int} {k : Int} {E E' : String} (h : X_mirror σ i j k E) (h' : X_mirror σ i j k E') : E = E' := by
  simp only [X_mirror, X3e, X2e, X2s, X3s, X1e, X1ea, X1a, X1aa, X1s, XPr, XSet, XNew, XAlg, XDi] at h h'
  rcases h with (⟨rfl, h⟩ | ⟨rfl, h⟩) | ⟨rfl, h⟩ <;> rcases h' with (⟨rfl, h'⟩ | ⟨rfl, h'⟩) | ⟨rfl, h'⟩
  · rfl
  · exact absurd ⟨h'.1, h'.2.1, h'.2.2.1⟩ h
  · exact absurd ⟨h'.1, h'.2.1, h'.2.2.1⟩ h
  · exact absurd ⟨h.1, h.2.1, h.2.2.1⟩ h'
  · rfl
  · exact absurd h'.2.2.2.1 h.2.2.2
  · exact absurd ⟨h.1, h.2.1, h.2.2.1⟩ h'
  · exact absurd h.2.2.2.1 h'.2.2.2
  · rfl
theorem Xu_prime {σ : St} {z : Int} {E E' : String} (h : X_prime σ z E) (h' : X_prime σ z E') : E = E' := by
  simp only [X_prime, X3e, X2e, X2s, X3s, X1e, X1ea, X1a, X1aa, X1s, XPr, XSet, XNew, XAlg, XDi] at h h'
  first
  | exact h.1.trans h'.1.symm
  | (rcases h with ⟨rfl, h⟩ | ⟨rfl, h⟩ <;> rcases h' with ⟨rfl, h'⟩ | ⟨rfl, h'⟩ <;> first | rfl | (exfalso; simp_all; done))
  | (rcases h with (⟨rfl, h⟩ | ⟨rfl, h⟩) | ⟨rfl, h⟩ <;> rcases h' with (⟨rfl, h'⟩ | ⟨rfl, h'⟩) | ⟨rfl, h'⟩ <;> first | rfl | (exfalso; simp_all; done))
  | (rcases h with ⟨rfl, h⟩ | ⟨rfl, h⟩ | ⟨rfl, h⟩ <;> rcases h' with ⟨rfl, h'⟩ | ⟨rfl, h'⟩ | ⟨rfl, h'⟩ <;> first | rfl | (exfalso; simp_all; done))
theorem Xi_prime {σ : St} {z : Int} {E : String} (h : X_prime σ z E) : E = IAE ∨ E = ISE := by
  simp only [X_prime, X3e, X2e, X2s, X3s, X1e, X1ea, X1a, X1aa, X1s, XPr, XSet, XNew, XAlg, XDi] at h
  first
  | exact h.1
  | (rcases h with ⟨rfl, -⟩ | ⟨rfl, -⟩ <;> simp [IOB, IAE, ISE]; done)
  | (rcases h with (⟨rfl, -⟩ | ⟨rfl, -⟩) | ⟨rfl, -⟩ <;> simp [IOB, IAE, ISE]; done)
  | (rcases h with ⟨rfl, -⟩ | ⟨rfl, -⟩ | ⟨rfl, -⟩ <;> simp [IOB, IAE, ISE]; done)
theorem Xu_algebra {σ : St} {z : Int} {E E' : String} (h : X_algebra σ z E) (h' : X_algebra σ z E') : E = E' := by
  simp only [X_algebra, X3e, X2e, X2s, X3s, X1e, X1ea, X1a, X1aa, X1s, XPr, XSet, XNew, XAlg, XDi] at h h'
  first
  | exact h.1.trans h'.1.symm
  | (rcases h with ⟨rfl, h⟩ | ⟨rfl, h⟩ <;> rcases h' with ⟨rfl, h'⟩ | ⟨rfl, h'⟩ <;> first | rfl | (exfalso; simp_all; done))
  | (rcases h with (⟨rfl, h⟩ | ⟨rfl, h⟩) | ⟨rfl, h⟩ <;> rcases h' with (⟨rfl, h'⟩ | ⟨rfl, h'⟩) | ⟨rfl, h'⟩ <;> first | rfl | (exfalso; simp_all; done))
  | (rcases h with ⟨rfl, h⟩ | ⟨rfl, h⟩ | ⟨rfl, h⟩ <;> rcases h' with ⟨rfl, h'⟩ | ⟨rfl, h'⟩ | ⟨rfl, h'⟩ <;> first | rfl | (exfalso; simp_all; done))
theorem Xi_algebra {σ : St} {z : Int} {E : String} (h : X_algebra σ z E) : E = IAE ∨ E = ISE := by
  simp only [X_algebra, X3e, X2e, X2s, X3s, X1e, X1ea, X1a, X1aa, X1s, XPr, XSet, XNew, XAlg, XDi] at h
  first
  | exact h.1
  | (rcases h with ⟨rfl, -⟩ | ⟨rfl, -⟩ <;> simp [IOB, IAE, ISE]; done)
  | (rcases h with (⟨rfl, -⟩ | ⟨rfl, -⟩) | ⟨rfl, -⟩ <;> simp [IOB, IAE, ISE]; done)
  | (rcases h with ⟨rfl, -⟩ | ⟨rfl, -⟩ | ⟨rfl, -⟩ <;> simp [IOB, IAE, ISE]; done)
theorem Xu_dial {σ : St} {i : Int} {z : Int} {E E' : String} (h : X_dial σ i z E) (h' : X_dial σ i z E') : E = E' := by
  simp only [X_dial, X3e, X2e, X2s, X3s, X1e, X1ea, X1a, X1aa, X1s, XPr, XSet, XNew, XAlg, XDi] at h h'
  first
  | exact h.1.trans h'.1.symm
  | (rcases h with ⟨rfl, h⟩ | ⟨rfl, h⟩ <;> rcases h' with ⟨rfl, h'⟩ | ⟨rfl, h'⟩ <;> first | rfl | (exfalso; simp_all; done))
  | (rcases h with (⟨rfl, h⟩ | ⟨rfl, h⟩) | ⟨rfl, h⟩ <;> rcases h' with (⟨rfl, h'⟩ | ⟨rfl, h'⟩) | ⟨rfl, h'⟩ <;> first | rfl | (exfalso; simp_all; done))
  | (rcases h with ⟨rfl, h⟩ | ⟨rfl, h⟩ | ⟨rfl, h⟩ <;> rcases h' with ⟨rfl, h'⟩ | ⟨rfl, h'⟩ | ⟨rfl, h'⟩ <;> first | rfl | (exfalso; simp_all; done))
theorem Xi_dial {σ : St} {i : Int} {z : Int} {E : String} (h : X_dial σ i z E) : E = IOB ∨ E = IAE ∨ E = ISE := by
  simp only [X_dial, X3e, X2e, X2s, X3s, X1e, X1ea, X1a, X1aa, X1s, XPr, XSet, XNew, XAlg, XDi] at h
  first
  | exact h.1
  | (rcases h with ⟨rfl, -⟩ | ⟨rfl, -⟩ <;> simp [IOB, IAE, ISE]; done)
  | (rcases h with (⟨rfl, -⟩ | ⟨rfl, -⟩) | ⟨rfl, -⟩ <;> simp [IOB, IAE, ISE]; done)
  | (rcases h with ⟨rfl, -⟩ | ⟨rfl, -⟩ | ⟨rfl, -⟩ <;> simp [IOB, IAE, ISE]; done)
theorem Xu_element {σ : St} {i : Int} {E E' : String} (h : X_element σ i E) (h' : X_element σ i E') : E = E' := by
  simp only [X_element, X3e, X2e, X2s, X3s, X1e, X1ea, X1a, X1aa, X1s, XPr, XSet, XNew, XAlg, XDi] at h h'
  first
  | exact h.1.trans h'.1.symm
  | (rcases h with ⟨rfl, h⟩ | ⟨rfl, h⟩ <;> rcases h' with ⟨rfl, h'⟩ | ⟨rfl, h'⟩ <;> first | rfl | (exfalso; simp_all; done))
  | (rcases h with (⟨rfl, h⟩ | ⟨rfl, h⟩) | ⟨rfl, h⟩ <;> rcases h' with (⟨rfl, h'⟩ | ⟨rfl, h'⟩) | ⟨rfl, h'⟩ <;> first | rfl | (exfalso; simp_all; done))
  | (rcases h with ⟨rfl, h⟩ | ⟨rfl, h⟩ | ⟨rfl, h⟩ <;> rcases h' with ⟨rfl, h'⟩ | ⟨rfl, h'⟩ | ⟨rfl, h'⟩ <;> first | rfl | (exfalso; simp_all; done))
theorem Xi_element {σ : St} {i : Int} {E : String} (h : X_element σ i E) : E = IOB ∨ E = ISE := by
  simp only [X_element, X3e, X2e, X2s, X3s, X1e, X1ea, X1a, X1aa, X1s, XPr, XSet, XNew, XAlg, XDi] at h
  first
  | exact h.1
  | (rcases h with ⟨rfl, -⟩ | ⟨rfl, -⟩ <;> simp [IOB, IAE, ISE]; done)
  | (rcases h with (⟨rfl, -⟩ | ⟨rfl, -⟩) | ⟨rfl, -⟩ <;> simp [IOB, IAE, ISE]; done)
  | (rcases h with ⟨rfl, -⟩ | ⟨rfl, -⟩ | ⟨rfl, -⟩ <;> simp [IOB, IAE, ISE]; done)
theorem Xi_set {σ : St} {i : Int} {u : Int} {z : Int} {E : String} (h : X_set σ i u z E) : E = IOB ∨ E = IAE := by
  simp only [X_set, X3e, X2e, X2s, X3s, X1e, X1ea, X1a, X1aa, X1s, XPr, XSet, XNew, XAlg, XDi] at h
  first
  | exact h.1
  | (rcases h with ⟨rfl, -⟩ | ⟨rfl, -⟩ <;> simp [IOB, IAE, ISE]; done)
  | (rcases h with (⟨rfl, -⟩ | ⟨rfl, -⟩) | ⟨rfl, -⟩ <;> simp [IOB, IAE, ISE]; done)
  | (rcases h with ⟨rfl, -⟩ | ⟨rfl, -⟩ | ⟨rfl, -⟩ <;> simp [IOB, IAE, ISE]; done)
theorem Xu_sum {σ : St} {i : Int} {j : Int} {k : Int} {E E' : String} (h : X_sum σ i j k E) (h' : X_sum σ i j k E') : E = E' := by
  simp only [X_sum, X3e, X2e, X2s, X3s, X1e, X1ea, X1a, X1aa, X1s, XPr, XSet, XNew, XAlg, XDi] at h h'
  first
  | exact h.1.trans h'.1.symm
  | (rcases h with ⟨rfl, h⟩ | ⟨rfl, h⟩ <;> rcases h' with ⟨rfl, h'⟩ | ⟨rfl, h'⟩ <;> first | rfl | (exfalso; simp_all; done))
  | (rcases h with (⟨rfl, h⟩ | ⟨rfl, h⟩) | ⟨rfl, h⟩ <;> rcases h' with (⟨rfl, h'⟩ | ⟨rfl, h'⟩) | ⟨rfl, h'⟩ <;> first | rfl | (exfalso; simp_all; done))
  | (rcases h with ⟨rfl, h⟩ | ⟨rfl, h⟩ | ⟨rfl, h⟩ <;> rcases h' with ⟨rfl, h'⟩ | ⟨rfl, h'⟩ | ⟨rfl, h'⟩ <;> first | rfl | (exfalso; simp_all; done))
theorem Xi_sum {σ : St} {i : Int} {j : Int} {k : Int} {E : String} (h : X_sum σ i j k E) : E = IOB ∨ E = IAE := by
  simp only [X_sum, X3e, X2e, X2s, X3s, X1e, X1ea, X1a, X1aa, X1s, XPr, XSet, XNew, XAlg, XDi] at h
  first
  | exact h.1
  | (rcases h with ⟨rfl, -⟩ | ⟨rfl, -⟩ <;> simp [IOB, IAE, ISE]; done)
  | (rcases h with (⟨rfl, -⟩ | ⟨rfl, -⟩) | ⟨rfl, -⟩ <;> simp [IOB, IAE, ISE]; done)
  | (rcases h with ⟨rfl, -⟩ | ⟨rfl, -⟩ | ⟨rfl, -⟩ <;> simp [IOB, IAE, ISE]; done)
theorem Xu_product {σ : St} {i : Int} {j : Int} {k : Int} {E E' : String} (h : X_product σ i j k E) (h' : X_product σ i j k E') : E = E' := by
  simp only [X_product, X3e, X2e, X2s, X3s, X1e, X1ea, X1a, X1aa, X1s, XPr, XSet, XNew, XAlg, XDi] at h h'
  first
  | exact h.1.trans h'.1.symm
  | (rcases h with ⟨rfl, h⟩ | ⟨rfl, h⟩ <;> rcases h' with ⟨rfl, h'⟩ | ⟨rfl, h'⟩ <;> first | rfl | (exfalso; simp_all; done))
  | (rcases h with (⟨rfl, h⟩ | ⟨rfl, h⟩) | ⟨rfl, h⟩ <;> rcases h' with (⟨rfl, h'⟩ | ⟨rfl, h'⟩) | ⟨rfl, h'⟩ <;> first | rfl | (exfalso; simp_all; done))
  | (rcases h with ⟨rfl, h⟩ | ⟨rfl, h⟩ | ⟨rfl, h⟩ <;> rcases h' with ⟨rfl, h'⟩ | ⟨rfl, h'⟩ | ⟨rfl, h'⟩ <;> first | rfl | (exfalso; simp_all; done))
theorem Xi_product {σ : St} {i : Int} {j : Int} {k : Int} {E : String} (h : X_product σ i j k E) : E = IOB ∨ E = IAE := by
  simp only [X_product, X3e, X2e, X2s, X3s, X1e, X1ea, X1a, X1aa, X1s, XPr, XSet, XNew, XAlg, XDi] at h
  first
  | exact h.1
  | (rcases h with ⟨rfl, -⟩ | ⟨rfl, -⟩ <;> simp [IOB, IAE, ISE]; done)
  | (rcases h with (⟨rfl, -⟩ | ⟨rfl, -⟩) | ⟨rfl, -⟩ <;> simp [IOB, IAE, ISE]; done)
  | (rcases h with ⟨rfl, -⟩ | ⟨rfl, -⟩ | ⟨rfl, -⟩ <;> simp [IOB, IAE, ISE]; done)
theorem Xu_scale {σ : St} {i : Int} {j : Int} {t : Int} {E E' : String} (h : X_scale σ i j t E) (h' : X_scale σ i j t E') : E = E' := by
  simp only [X_scale, X3e, X2e, X2s, X3s, X1e, X1ea, X1a, X1aa, X1s, XPr, XSet, XNew, XAlg, XDi] at h h'
  first
  | exact h.1.trans h'.1.symm
  | (rcases h with ⟨rfl, h⟩ | ⟨rfl, h⟩ <;> rcases h' with ⟨rfl, h'⟩ | ⟨rfl, h'⟩ <;> first | rfl | (exfalso; simp_all; done))
  | (rcases h with (⟨rfl, h⟩ | ⟨rfl, h⟩) | ⟨rfl, h⟩ <;> rcases h' with (⟨rfl, h'⟩ | ⟨rfl, h'⟩) | ⟨rfl, h'⟩ <;> first | rfl | (exfalso; simp_all; done))
  | (rcases h with ⟨rfl, h⟩ | ⟨rfl, h⟩ | ⟨rfl, h⟩ <;> rcases h' with ⟨rfl, h'⟩ | ⟨rfl, h'⟩ | ⟨rfl, h'⟩ <;> first | rfl | (exfalso; simp_all; done))
theorem Xi_scale {σ : St} {i : Int} {j : Int} {t : Int} {E : String} (h : X_scale σ i j t E) : E = IOB ∨ E = IAE := by
  simp only [X_scale, X3e, X2e, X2s, X3s, X1e, X1ea, X1a, X1aa, X1s, XPr, XSet, XNew, XAlg, XDi] at h
  first
  | exact h.1
  | (rcases h with ⟨rfl, -⟩ | ⟨rfl, -⟩ <;> simp [IOB, IAE, ISE]; done)
  | (rcases h with (⟨rfl, -⟩ | ⟨rfl, -⟩) | ⟨rfl, -⟩ <;> simp [IOB, IAE, ISE]; done)
  | (rcases h with ⟨rfl, -⟩ | ⟨rfl, -⟩ | ⟨rfl, -⟩ <;> simp [IOB, IAE, ISE]; done)
theorem Xu_conjugate {σ : St} {i : Int} {j : Int} {E E' : String} (h : X_conjugate σ i j E) (h' : X_conjugate σ i j E') : E = E' := by
  simp only [X_conjugate, X3e, X2e, X2s, X3s, X1e, X1ea, X1a, X1aa, X1s, XPr, XSet, XNew, XAlg, XDi] at h h'
  first
  | exact h.1.trans h'.1.symm
  | (rcases h with ⟨rfl, h⟩ | ⟨rfl, h⟩ <;> rcases h' with ⟨rfl, h'⟩ | ⟨rfl, h'⟩ <;> first | rfl | (exfalso; simp_all; done))
  | (rcases h with (⟨rfl, h⟩ | ⟨rfl, h⟩) | ⟨rfl, h⟩ <;> rcases h' with (⟨rfl, h'⟩ | ⟨rfl, h'⟩) | ⟨rfl, h'⟩ <;> first | rfl | (exfalso; simp_all; done))
  | (rcases h with ⟨rfl, h⟩ | ⟨rfl, h⟩ | ⟨rfl, h⟩ <;> rcases h' with ⟨rfl, h'⟩ | ⟨rfl, h'⟩ | ⟨rfl, h'⟩ <;> first | rfl | (exfalso; simp_all; done))
theorem Xi_conjugate {σ : St} {i : Int} {j : Int} {E : String} (h : X_conjugate σ i j E) : E = IOB ∨ E = IAE := by
  simp only [X_conjugate, X3e, X2e, X2s, X3s, X1e, X1ea, X1a, X1aa, X1s, XPr, XSet, XNew, XAlg, XDi] at h
  first
  | exact h.1
  | (rcases h with ⟨rfl, -⟩ | ⟨rfl, -⟩ <;> simp [IOB, IAE, ISE]; done)
  | (rcases h with (⟨rfl, -⟩ | ⟨rfl, -⟩) | ⟨rfl, -⟩ <;> simp [IOB, IAE, ISE]; done)
  | (rcases h with ⟨rfl, -⟩ | ⟨rfl, -⟩ | ⟨rfl, -⟩ <;> simp [IOB, IAE, ISE]; done)
theorem Xu_power {σ : St} {i : Int} {j : Int} {t : Int} {E E' : String} (h : X_power σ i j t E) (h' : X_power σ i j t E') : E = E' := by
  simp only [X_power, X3e, X2e, X2s, X3s, X1e, X1ea, X1a, X1aa, X1s, XPr, XSet, XNew, XAlg, XDi] at h h'
  first
  | exact h.1.trans h'.1.symm
  | (rcases h with ⟨rfl, h⟩ | ⟨rfl, h⟩ <;> rcases h' with ⟨rfl, h'⟩ | ⟨rfl, h'⟩ <;> first | rfl | (exfalso; simp_all; done))
  | (rcases h with (⟨rfl, h⟩ | ⟨rfl, h⟩) | ⟨rfl, h⟩ <;> rcases h' with (⟨rfl, h'⟩ | ⟨rfl, h'⟩) | ⟨rfl, h'⟩ <;> first | rfl | (exfalso; simp_all; done))
  | (rcases h with ⟨rfl, h⟩ | ⟨rfl, h⟩ | ⟨rfl, h⟩ <;> rcases h' with ⟨rfl, h'⟩ | ⟨rfl, h'⟩ | ⟨rfl, h'⟩ <;> first | rfl | (exfalso; simp_all; done))
theorem Xi_power {σ : St} {i : Int} {j : Int} {t : Int} {E : String} (h : X_power σ i j t E) : E = IOB ∨ E = IAE := by
  simp only [X_power, X3e, X2e, X2s, X3s, X1e, X1ea, X1a, X1aa, X1s, XPr, XSet, XNew, XAlg, XDi] at h
  first
  | exact h.1
  | (rcases h with ⟨rfl, -⟩ | ⟨rfl, -⟩ <;> simp [IOB, IAE, ISE]; done)
  | (rcases h with (⟨rfl, -⟩ | ⟨rfl, -⟩) | ⟨rfl, -⟩ <;> simp [IOB, IAE, ISE]; done)
  | (rcases h with ⟨rfl, -⟩ | ⟨rfl, -⟩ | ⟨rfl, -⟩ <;> simp [IOB, IAE, ISE]; done)
theorem Xu_invert {σ : St} {i : Int} {j : Int} {E E' : String} (h : X_invert σ i j E) (h' : X_invert σ i j E') : E = E' := by
  simp only [X_invert, X3e, X2e, X2s, X3s, X1e, X1ea, X1a, X1aa, X1s, XPr, XSet, XNew, XAlg, XDi] at h h'
  first
  | exact h.1.trans h'.1.symm
  | (rcases h with ⟨rfl, h⟩ | ⟨rfl, h⟩ <;> rcases h' with ⟨rfl, h'⟩ | ⟨rfl, h'⟩ <;> first | rfl | (exfalso; simp_all; done))
  | (rcases h with (⟨rfl, h⟩ | ⟨rfl, h⟩) | ⟨rfl, h⟩ <;> rcases h' with (⟨rfl, h'⟩ | ⟨rfl, h'⟩) | ⟨rfl, h'⟩ <;> first | rfl | (exfalso; simp_all; done))
  | (rcases h with ⟨rfl, h⟩ | ⟨rfl, h⟩ | ⟨rfl, h⟩ <;> rcases h' with ⟨rfl, h'⟩ | ⟨rfl, h'⟩ | ⟨rfl, h'⟩ <;> first | rfl | (exfalso; simp_all; done))
theorem Xi_invert {σ : St} {i : Int} {j : Int} {E : String} (h : X_invert σ i j E) : E = IOB ∨ E = IAE ∨ E = ISE := by
  simp only [X_invert, X3e, X2e, X2s, X3s, X1e, X1ea, X1a, X1aa, X1s, XPr, XSet, XNew, XAlg, XDi] at h
  first
  | exact h.1
  | (rcases h with ⟨rfl, -⟩ | ⟨rfl, -⟩ <;> simp [IOB, IAE, ISE]; done)
  | (rcases h with (⟨rfl, -⟩ | ⟨rfl, -⟩) | ⟨rfl, -⟩ <;> simp [IOB, IAE, ISE]; done)
  | (rcases h with ⟨rfl, -⟩ | ⟨rfl, -⟩ | ⟨rfl, -⟩ <;> simp [IOB, IAE, ISE]; done)
theorem Xu_series {σ : St} {i : Int} {j : Int} {E E' : String} (h : X_series σ i j E) (h' : X_series σ i j E') : E = E' := by
  simp only [X_series, X3e, X2e, X2s, X3s, X1e, X1ea, X1a, X1aa, X1s, XPr, XSet, XNew, XAlg, XDi] at h h'
  first
  | exact h.1.trans h'.1.symm
  | (rcases h with ⟨rfl, h⟩ | ⟨rfl, h⟩ <;> rcases h' with ⟨rfl, h'⟩ | ⟨rfl, h'⟩ <;> first | rfl | (exfalso; simp_all; done))
  | (rcases h with (⟨rfl, h⟩ | ⟨rfl, h⟩) | ⟨rfl, h⟩ <;> rcases h' with (⟨rfl, h'⟩ | ⟨rfl, h'⟩) | ⟨rfl, h'⟩ <;> first | rfl | (exfalso; simp_all; done))
  | (rcases h with ⟨rfl, h⟩ | ⟨rfl, h⟩ | ⟨rfl, h⟩ <;> rcases h' with ⟨rfl, h'⟩ | ⟨rfl, h'⟩ | ⟨rfl, h'⟩ <;> first | rfl | (exfalso; simp_all; done))
theorem Xi_series {σ : St} {i : Int} {j : Int} {E : String} (h : X_series σ i j E) : E = IOB ∨ E = IAE ∨ E = ISE := by
  simp only [X_series, X3e, X2e, X2s, X3s, X1e, X1ea, X1a, X1aa, X1s, XPr, XSet, XNew, XAlg, XDi] at h
  first
  | exact h.1
  | (rcases h with ⟨rfl, -⟩ | ⟨rfl, -⟩ <;> simp [IOB, IAE, ISE]; done)
  | (rcases h with (⟨rfl, -⟩ | ⟨rfl, -⟩) | ⟨rfl, -⟩ <;> simp [IOB, IAE, ISE]; done)
  | (rcases h with ⟨rfl, -⟩ | ⟨rfl, -⟩ | ⟨rfl, -⟩ <;> simp [IOB, IAE, ISE]; done)
theorem Xu_killer {σ : St} {i : Int} {j : Int} {E E' : String} (h : X_killer σ i j E) (h' : X_killer σ i j E') : E = E' := by
  simp only [X_killer, X3e, X2e, X2s, X3s, X1e, X1ea, X1a, X1aa, X1s, XPr, XSet, XNew, XAlg, XDi] at h h'
  first
  | exact h.1.trans h'.1.symm
  | (rcases h with ⟨rfl, h⟩ | ⟨rfl, h⟩ <;> rcases h' with ⟨rfl, h'⟩ | ⟨rfl, h'⟩ <;> first | rfl | (exfalso; simp_all; done))
  | (rcases h with (⟨rfl, h⟩ | ⟨rfl, h⟩) | ⟨rfl, h⟩ <;> rcases h' with (⟨rfl, h'⟩ | ⟨rfl, h'⟩) | ⟨rfl, h'⟩ <;> first | rfl | (exfalso; simp_all; done))
  | (rcases h with ⟨rfl, h⟩ | ⟨rfl, h⟩ | ⟨rfl, h⟩ <;> rcases h' with ⟨rfl, h'⟩ | ⟨rfl, h'⟩ | ⟨rfl, h'⟩ <;> first | rfl | (exfalso; simp_all; done))
theorem Xi_killer {σ : St} {i : Int} {j : Int} {E : String} (h : X_killer σ i j E) : E = IOB ∨ E = IAE ∨ E = ISE := by
  simp only [X_killer, X3e, X2e, X2s, X3s, X1e, X1ea, X1a, X1aa, X1s, XPr, XSet, XNew, XAlg, XDi] at h
  first
  | exact h.1
  | (rcases h with ⟨rfl, -⟩ | ⟨rfl, -⟩ <;> simp [IOB, IAE, ISE]; done)
  | (rcases h with (⟨rfl, -⟩ | ⟨rfl, -⟩) | ⟨rfl, -⟩ <;> simp [IOB, IAE, ISE]; done)
  | (rcases h with ⟨rfl, -⟩ | ⟨rfl, -⟩ | ⟨rfl, -⟩ <;> simp [IOB, IAE, ISE]; done)
theorem Xu_hang {σ : St} {i : Int} {E E' : String} (h : X_hang σ i E) (h' : X_hang σ i E') : E = E' := by
  simp only [X_hang, X3e, X2e, X2s, X3s, X1e, X1ea, X1a, X1aa, X1s, XPr, XSet, XNew, XAlg, XDi] at h h'
  first
  | exact h.1.trans h'.1.symm
  | (rcases h with ⟨rfl, h⟩ | ⟨rfl, h⟩ <;> rcases h' with ⟨rfl, h'⟩ | ⟨rfl, h'⟩ <;> first | rfl | (exfalso; simp_all; done))
  | (rcases h with (⟨rfl, h⟩ | ⟨rfl, h⟩) | ⟨rfl, h⟩ <;> rcases h' with (⟨rfl, h'⟩ | ⟨rfl, h'⟩) | ⟨rfl, h'⟩ <;> first | rfl | (exfalso; simp_all; done))
  | (rcases h with ⟨rfl, h⟩ | ⟨rfl, h⟩ | ⟨rfl, h⟩ <;> rcases h' with ⟨rfl, h'⟩ | ⟨rfl, h'⟩ | ⟨rfl, h'⟩ <;> first | rfl | (exfalso; simp_all; done))
theorem Xi_hang {σ : St} {i : Int} {E : String} (h : X_hang σ i E) : E = IOB ∨ E = ISE := by
  simp only [X_hang, X3e, X2e, X2s, X3s, X1e, X1ea, X1a, X1aa, X1s, XPr, XSet, XNew, XAlg, XDi] at h
  first
  | exact h.1
  | (rcases h with ⟨rfl, -⟩ | ⟨rfl, -⟩ <;> simp [IOB, IAE, ISE]; done)
  | (rcases h with (⟨rfl, -⟩ | ⟨rfl, -⟩) | ⟨rfl, -⟩ <;> simp [IOB, IAE, ISE]; done)
  | (rcases h with ⟨rfl, -⟩ | ⟨rfl, -⟩ | ⟨rfl, -⟩ <;> simp [IOB, IAE, ISE]; done)
theorem Xu_clear {σ : St} {i : Int} {E E' : String} (h : X_clear σ i E) (h' : X_clear σ i E') : E = E' := by
  simp only [X_clear, X3e, X2e, X2s, X3s, X1e, X1ea, X1a, X1aa, X1s, XPr, XSet, XNew, XAlg, XDi] at h h'
  first
  | exact h.1.trans h'.1.symm
  | (rcases h with ⟨rfl, h⟩ | ⟨rfl, h⟩ <;> rcases h' with ⟨rfl, h'⟩ | ⟨rfl, h'⟩ <;> first | rfl | (exfalso; simp_all; done))
  | (rcases h with (⟨rfl, h⟩ | ⟨rfl, h⟩) | ⟨rfl, h⟩ <;> rcases h' with (⟨rfl, h'⟩ | ⟨rfl, h'⟩) | ⟨rfl, h'⟩ <;> first | rfl | (exfalso; simp_all; done))
  | (rcases h with ⟨rfl, h⟩ | ⟨rfl, h⟩ | ⟨rfl, h⟩ <;> rcases h' with ⟨rfl, h'⟩ | ⟨rfl, h'⟩ | ⟨rfl, h'⟩ <;> first | rfl | (exfalso; simp_all; done))
theorem Xi_clear {σ : St} {i : Int} {E : String} (h : X_clear σ i E) : E = IOB := by
  simp only [X_clear, X3e, X2e, X2s, X3s, X1e, X1ea, X1a, X1aa, X1s, XPr, XSet, XNew, XAlg, XDi] at h
  first
  | exact h.1
  | (rcases h with ⟨rfl, -⟩ | ⟨rfl, -⟩ <;> simp [IOB, IAE, ISE]; done)
  | (rcases h with (⟨rfl, -⟩ | ⟨rfl, -⟩) | ⟨rfl, -⟩ <;> simp [IOB, IAE, ISE]; done)
  | (rcases h with ⟨rfl, -⟩ | ⟨rfl, -⟩ | ⟨rfl, -⟩ <;> simp [IOB, IAE, ISE]; done)
theorem Xi_mirror {σ : St} {i : Int} {j : Int} {k : Int} {E : String} (h : X_mirror σ i j k E) : E = IOB ∨ E = IAE ∨ E = ISE := by
  simp only [X_mirror, X3e, X2e, X2s, X3s, X1e, X1ea, X1a, X1aa, X1s, XPr, XSet, XNew, XAlg, XDi] at h
  first
  | exact h.1
  | (rcases h with ⟨rfl, -⟩ | ⟨rfl, -⟩ <;> simp [IOB, IAE, ISE]; done)
  | (rcases h with (⟨rfl, -⟩ | ⟨rfl, -⟩) | ⟨rfl, -⟩ <;> simp [IOB, IAE, ISE]; done)
  | (rcases h with ⟨rfl, -⟩ | ⟨rfl, -⟩ | ⟨rfl, -⟩ <;> simp [IOB, IAE, ISE]; done)
theorem Xu_turn {σ : St} {i : Int} {j : Int} {E E' : String} (h : X_turn σ i j E) (h' : X_turn σ i j E') : E = E' := by
  simp only [X_turn, X3e, X2e, X2s, X3s, X1e, X1ea, X1a, X1aa, X1s, XPr, XSet, XNew, XAlg, XDi] at h h'
  first
  | exact h.1.trans h'.1.symm
  | (rcases h with ⟨rfl, h⟩ | ⟨rfl, h⟩ <;> rcases h' with ⟨rfl, h'⟩ | ⟨rfl, h'⟩ <;> first | rfl | (exfalso; simp_all; done))
  | (rcases h with (⟨rfl, h⟩ | ⟨rfl, h⟩) | ⟨rfl, h⟩ <;> rcases h' with (⟨rfl, h'⟩ | ⟨rfl, h'⟩) | ⟨rfl, h'⟩ <;> first | rfl | (exfalso; simp_all; done))
  | (rcases h with ⟨rfl, h⟩ | ⟨rfl, h⟩ | ⟨rfl, h⟩ <;> rcases h' with ⟨rfl, h'⟩ | ⟨rfl, h'⟩ | ⟨rfl, h'⟩ <;> first | rfl | (exfalso; simp_all; done))
theorem Xi_turn {σ : St} {i : Int} {j : Int} {E : String} (h : X_turn σ i j E) : E = IOB ∨ E = IAE ∨ E = ISE := by
  simp only [X_turn, X3e, X2e, X2s, X3s, X1e, X1ea, X1a, X1aa, X1s, XPr, XSet, XNew, XAlg, XDi] at h
  first
  | exact h.1
  | (rcases h with ⟨rfl, -⟩ | ⟨rfl, -⟩ <;> simp [IOB, IAE, ISE]; done)
  | (rcases h with (⟨rfl, -⟩ | ⟨rfl, -⟩) | ⟨rfl, -⟩ <;> simp [IOB, IAE, ISE]; done)
  | (rcases h with ⟨rfl, -⟩ | ⟨rfl, -⟩ | ⟨rfl, -⟩ <;> simp [IOB, IAE, ISE]; done)
theorem Xu_versor {σ : St} {i : Int} {E E' : String} (h : X_versor σ i E) (h' : X_versor σ i E') : E = E' := by
  simp only [X_versor, X3e, X2e, X2s, X3s, X1e, X1ea, X1a, X1aa, X1s, XPr, XSet, XNew, XAlg, XDi] at h h'
  first
  | exact h.1.trans h'.1.symm
  | (rcases h with ⟨rfl, h⟩ | ⟨rfl, h⟩ <;> rcases h' with ⟨rfl, h'⟩ | ⟨rfl, h'⟩ <;> first | rfl | (exfalso; simp_all; done))
  | (rcases h with (⟨rfl, h⟩ | ⟨rfl, h⟩) | ⟨rfl, h⟩ <;> rcases h' with (⟨rfl, h'⟩ | ⟨rfl, h'⟩) | ⟨rfl, h'⟩ <;> first | rfl | (exfalso; simp_all; done))
  | (rcases h with ⟨rfl, h⟩ | ⟨rfl, h⟩ | ⟨rfl, h⟩ <;> rcases h' with ⟨rfl, h'⟩ | ⟨rfl, h'⟩ | ⟨rfl, h'⟩ <;> first | rfl | (exfalso; simp_all; done))
theorem Xi_versor {σ : St} {i : Int} {E : String} (h : X_versor σ i E) : E = IOB ∨ E = ISE := by
  simp only [X_versor, X3e, X2e, X2s, X3s, X1e, X1ea, X1a, X1aa, X1s, XPr, XSet, XNew, XAlg, XDi] at h
  first
  | exact h.1
  | (rcases h with ⟨rfl, -⟩ | ⟨rfl, -⟩ <;> simp [IOB, IAE, ISE]; done)
  | (rcases h with (⟨rfl, -⟩ | ⟨rfl, -⟩) | ⟨rfl, -⟩ <;> simp [IOB, IAE, ISE]; done)
  | (rcases h with ⟨rfl, -⟩ | ⟨rfl, -⟩ | ⟨rfl, -⟩ <;> simp [IOB, IAE, ISE]; done)
theorem Xu_run {σ : St} {i : Int} {w : Int} {E E' : String} (h : X_run σ i w E) (h' : X_run σ i w E') : E = E' := by
  simp only [X_run, X3e, X2e, X2s, X3s, X1e, X1ea, X1a, X1aa, X1s, XPr, XSet, XNew, XAlg, XDi] at h h'
  first
  | exact h.1.trans h'.1.symm
  | (rcases h with ⟨rfl, h⟩ | ⟨rfl, h⟩ <;> rcases h' with ⟨rfl, h'⟩ | ⟨rfl, h'⟩ <;> first | rfl | (exfalso; simp_all; done))
  | (rcases h with (⟨rfl, h⟩ | ⟨rfl, h⟩) | ⟨rfl, h⟩ <;> rcases h' with (⟨rfl, h'⟩ | ⟨rfl, h'⟩) | ⟨rfl, h'⟩ <;> first | rfl | (exfalso; simp_all; done))
  | (rcases h with ⟨rfl, h⟩ | ⟨rfl, h⟩ | ⟨rfl, h⟩ <;> rcases h' with ⟨rfl, h'⟩ | ⟨rfl, h'⟩ | ⟨rfl, h'⟩ <;> first | rfl | (exfalso; simp_all; done))
theorem Xi_run {σ : St} {i : Int} {w : Int} {E : String} (h : X_run σ i w E) : E = IOB ∨ E = IAE := by
  simp only [X_run, X3e, X2e, X2s, X3s, X1e, X1ea, X1a, X1aa, X1s, XPr, XSet, XNew, XAlg, XDi] at h
  first
  | exact h.1
  | (rcases h with ⟨rfl, -⟩ | ⟨rfl, -⟩ <;> simp [IOB, IAE, ISE]; done)
  | (rcases h with (⟨rfl, -⟩ | ⟨rfl, -⟩) | ⟨rfl, -⟩ <;> simp [IOB, IAE, ISE]; done)
  | (rcases h with ⟨rfl, -⟩ | ⟨rfl, -⟩ | ⟨rfl, -⟩ <;> simp [IOB, IAE, ISE]; done)
theorem Xu_at {σ : St} {i : Int} {u : Int} {E E' : String} (h : X_at σ i u E) (h' : X_at σ i u E') : E = E' := by
  simp only [X_at, X3e, X2e, X2s, X3s, X1e, X1ea, X1a, X1aa, X1s, XPr, XSet, XNew, XAlg, XDi] at h h'
  first
  | exact h.1.trans h'.1.symm
  | (rcases h with ⟨rfl, h⟩ | ⟨rfl, h⟩ <;> rcases h' with ⟨rfl, h'⟩ | ⟨rfl, h'⟩ <;> first | rfl | (exfalso; simp_all; done))
  | (rcases h with (⟨rfl, h⟩ | ⟨rfl, h⟩) | ⟨rfl, h⟩ <;> rcases h' with (⟨rfl, h'⟩ | ⟨rfl, h'⟩) | ⟨rfl, h'⟩ <;> first | rfl | (exfalso; simp_all; done))
  | (rcases h with ⟨rfl, h⟩ | ⟨rfl, h⟩ | ⟨rfl, h⟩ <;> rcases h' with ⟨rfl, h'⟩ | ⟨rfl, h'⟩ | ⟨rfl, h'⟩ <;> first | rfl | (exfalso; simp_all; done))
theorem Xi_at {σ : St} {i : Int} {u : Int} {E : String} (h : X_at σ i u E) : E = IOB := by
  simp only [X_at, X3e, X2e, X2s, X3s, X1e, X1ea, X1a, X1aa, X1s, XPr, XSet, XNew, XAlg, XDi] at h
  first
  | exact h.1
  | (rcases h with ⟨rfl, -⟩ | ⟨rfl, -⟩ <;> simp [IOB, IAE, ISE]; done)
  | (rcases h with (⟨rfl, -⟩ | ⟨rfl, -⟩) | ⟨rfl, -⟩ <;> simp [IOB, IAE, ISE]; done)
  | (rcases h with ⟨rfl, -⟩ | ⟨rfl, -⟩ | ⟨rfl, -⟩ <;> simp [IOB, IAE, ISE]; done)
theorem Xu_ofElement {σ : St} {i : Int} {w : Int} {E E' : String} (h : X_ofElement σ i w E) (h' : X_ofElement σ i w E') : E = E' := by
  simp only [X_ofElement, X3e, X2e, X2s, X3s, X1e, X1ea, X1a, X1aa, X1s, XPr, XSet, XNew, XAlg, XDi] at h h'
  first
  | exact h.1.trans h'.1.symm
  | (rcases h with ⟨rfl, h⟩ | ⟨rfl, h⟩ <;> rcases h' with ⟨rfl, h'⟩ | ⟨rfl, h'⟩ <;> first | rfl | (exfalso; simp_all; done))
  | (rcases h with (⟨rfl, h⟩ | ⟨rfl, h⟩) | ⟨rfl, h⟩ <;> rcases h' with (⟨rfl, h'⟩ | ⟨rfl, h'⟩) | ⟨rfl, h'⟩ <;> first | rfl | (exfalso; simp_all; done))
  | (rcases h with ⟨rfl, h⟩ | ⟨rfl, h⟩ | ⟨rfl, h⟩ <;> rcases h' with ⟨rfl, h'⟩ | ⟨rfl, h'⟩ | ⟨rfl, h'⟩ <;> first | rfl | (exfalso; simp_all; done))
theorem Xi_ofElement {σ : St} {i : Int} {w : Int} {E : String} (h : X_ofElement σ i w E) : E = IOB ∨ E = IAE := by
  simp only [X_ofElement, X3e, X2e, X2s, X3s, X1e, X1ea, X1a, X1aa, X1s, XPr, XSet, XNew, XAlg, XDi] at h
  first
  | exact h.1
  | (rcases h with ⟨rfl, -⟩ | ⟨rfl, -⟩ <;> simp [IOB, IAE, ISE]; done)
  | (rcases h with (⟨rfl, -⟩ | ⟨rfl, -⟩) | ⟨rfl, -⟩ <;> simp [IOB, IAE, ISE]; done)
  | (rcases h with ⟨rfl, -⟩ | ⟨rfl, -⟩ | ⟨rfl, -⟩ <;> simp [IOB, IAE, ISE]; done)
theorem Xu_text {σ : St} {i : Int} {E E' : String} (h : X_text σ i E) (h' : X_text σ i E') : E = E' := by
  simp only [X_text, X3e, X2e, X2s, X3s, X1e, X1ea, X1a, X1aa, X1s, XPr, XSet, XNew, XAlg, XDi] at h h'
  first
  | exact h.1.trans h'.1.symm
  | (rcases h with ⟨rfl, h⟩ | ⟨rfl, h⟩ <;> rcases h' with ⟨rfl, h'⟩ | ⟨rfl, h'⟩ <;> first | rfl | (exfalso; simp_all; done))
  | (rcases h with (⟨rfl, h⟩ | ⟨rfl, h⟩) | ⟨rfl, h⟩ <;> rcases h' with (⟨rfl, h'⟩ | ⟨rfl, h'⟩) | ⟨rfl, h'⟩ <;> first | rfl | (exfalso; simp_all; done))
  | (rcases h with ⟨rfl, h⟩ | ⟨rfl, h⟩ | ⟨rfl, h⟩ <;> rcases h' with ⟨rfl, h'⟩ | ⟨rfl, h'⟩ | ⟨rfl, h'⟩ <;> first | rfl | (exfalso; simp_all; done))
theorem Xi_text {σ : St} {i : Int} {E : String} (h : X_text σ i E) : E = IOB := by
  simp only [X_text, X3e, X2e, X2s, X3s, X1e, X1ea, X1a, X1aa, X1s, XPr, XSet, XNew, XAlg, XDi] at h
  first
  | exact h.1
  | (rcases h with ⟨rfl, -⟩ | ⟨rfl, -⟩ <;> simp [IOB, IAE, ISE]; done)
  | (rcases h with (⟨rfl, -⟩ | ⟨rfl, -⟩) | ⟨rfl, -⟩ <;> simp [IOB, IAE, ISE]; done)
  | (rcases h with ⟨rfl, -⟩ | ⟨rfl, -⟩ | ⟨rfl, -⟩ <;> simp [IOB, IAE, ISE]; done)
theorem Xu_ofAlgebra {σ : St} {i : Int} {w : Int} {E E' : String} (h : X_ofAlgebra σ i w E) (h' : X_ofAlgebra σ i w E') : E = E' := by
  simp only [X_ofAlgebra, X3e, X2e, X2s, X3s, X1e, X1ea, X1a, X1aa, X1s, XPr, XSet, XNew, XAlg, XDi] at h h'
  first
  | exact h.1.trans h'.1.symm
  | (rcases h with ⟨rfl, h⟩ | ⟨rfl, h⟩ <;> rcases h' with ⟨rfl, h'⟩ | ⟨rfl, h'⟩ <;> first | rfl | (exfalso; simp_all; done))
  | (rcases h with (⟨rfl, h⟩ | ⟨rfl, h⟩) | ⟨rfl, h⟩ <;> rcases h' with (⟨rfl, h'⟩ | ⟨rfl, h'⟩) | ⟨rfl, h'⟩ <;> first | rfl | (exfalso; simp_all; done))
  | (rcases h with ⟨rfl, h⟩ | ⟨rfl, h⟩ | ⟨rfl, h⟩ <;> rcases h' with ⟨rfl, h'⟩ | ⟨rfl, h'⟩ | ⟨rfl, h'⟩ <;> first | rfl | (exfalso; simp_all; done))
theorem Xi_ofAlgebra {σ : St} {i : Int} {w : Int} {E : String} (h : X_ofAlgebra σ i w E) : E = IOB ∨ E = IAE := by
  simp only [X_ofAlgebra, X3e, X2e, X2s, X3s, X1e, X1ea, X1a, X1aa, X1s, XPr, XSet, XNew, XAlg, XDi] at h
  first
  | exact h.1
  | (rcases h with ⟨rfl, -⟩ | ⟨rfl, -⟩ <;> simp [IOB, IAE, ISE]; done)
  | (rcases h with (⟨rfl, -⟩ | ⟨rfl, -⟩) | ⟨rfl, -⟩ <;> simp [IOB, IAE, ISE]; done)
  | (rcases h with ⟨rfl, -⟩ | ⟨rfl, -⟩ | ⟨rfl, -⟩ <;> simp [IOB, IAE, ISE]; done)
theorem Xu_sign {σ : St} {i : Int} {u : Int} {v : Int} {E E' : String} (h : X_sign σ i u v E) (h' : X_sign σ i u v E') : E = E' := by
  simp only [X_sign, X3e, X2e, X2s, X3s, X1e, X1ea, X1a, X1aa, X1s, XPr, XSet, XNew, XAlg, XDi] at h h'
  first
  | exact h.1.trans h'.1.symm
  | (rcases h with ⟨rfl, h⟩ | ⟨rfl, h⟩ <;> rcases h' with ⟨rfl, h'⟩ | ⟨rfl, h'⟩ <;> first | rfl | (exfalso; simp_all; done))
  | (rcases h with (⟨rfl, h⟩ | ⟨rfl, h⟩) | ⟨rfl, h⟩ <;> rcases h' with (⟨rfl, h'⟩ | ⟨rfl, h'⟩) | ⟨rfl, h'⟩ <;> first | rfl | (exfalso; simp_all; done))
  | (rcases h with ⟨rfl, h⟩ | ⟨rfl, h⟩ | ⟨rfl, h⟩ <;> rcases h' with ⟨rfl, h'⟩ | ⟨rfl, h'⟩ | ⟨rfl, h'⟩ <;> first | rfl | (exfalso; simp_all; done))
theorem Xi_sign {σ : St} {i : Int} {u : Int} {v : Int} {E : String} (h : X_sign σ i u v E) : E = IOB := by
  simp only [X_sign, X3e, X2e, X2s, X3s, X1e, X1ea, X1a, X1aa, X1s, XPr, XSet, XNew, XAlg, XDi] at h
  first
  | exact h.1
  | (rcases h with ⟨rfl, -⟩ | ⟨rfl, -⟩ <;> simp [IOB, IAE, ISE]; done)
  | (rcases h with (⟨rfl, -⟩ | ⟨rfl, -⟩) | ⟨rfl, -⟩ <;> simp [IOB, IAE, ISE]; done)
  | (rcases h with ⟨rfl, -⟩ | ⟨rfl, -⟩ | ⟨rfl, -⟩ <;> simp [IOB, IAE, ISE]; done)
theorem Xu_breaks {σ : St} {i : Int} {u : Int} {E E' : String} (h : X_breaks σ i u E) (h' : X_breaks σ i u E') : E = E' := by
  simp only [X_breaks, X3e, X2e, X2s, X3s, X1e, X1ea, X1a, X1aa, X1s, XPr, XSet, XNew, XAlg, XDi] at h h'
  first
  | exact h.1.trans h'.1.symm
  | (rcases h with ⟨rfl, h⟩ | ⟨rfl, h⟩ <;> rcases h' with ⟨rfl, h'⟩ | ⟨rfl, h'⟩ <;> first | rfl | (exfalso; simp_all; done))
  | (rcases h with (⟨rfl, h⟩ | ⟨rfl, h⟩) | ⟨rfl, h⟩ <;> rcases h' with (⟨rfl, h'⟩ | ⟨rfl, h'⟩) | ⟨rfl, h'⟩ <;> first | rfl | (exfalso; simp_all; done))
  | (rcases h with ⟨rfl, h⟩ | ⟨rfl, h⟩ | ⟨rfl, h⟩ <;> rcases h' with ⟨rfl, h'⟩ | ⟨rfl, h'⟩ | ⟨rfl, h'⟩ <;> first | rfl | (exfalso; simp_all; done))
theorem Xi_breaks {σ : St} {i : Int} {u : Int} {E : String} (h : X_breaks σ i u E) : E = IOB := by
  simp only [X_breaks, X3e, X2e, X2s, X3s, X1e, X1ea, X1a, X1aa, X1s, XPr, XSet, XNew, XAlg, XDi] at h
  first
  | exact h.1
  | (rcases h with ⟨rfl, -⟩ | ⟨rfl, -⟩ <;> simp [IOB, IAE, ISE]; done)
  | (rcases h with (⟨rfl, -⟩ | ⟨rfl, -⟩) | ⟨rfl, -⟩ <;> simp [IOB, IAE, ISE]; done)
  | (rcases h with ⟨rfl, -⟩ | ⟨rfl, -⟩ | ⟨rfl, -⟩ <;> simp [IOB, IAE, ISE]; done)
theorem Xu_lean {σ : St} {i : Int} {E E' : String} (h : X_lean σ i E) (h' : X_lean σ i E') : E = E' := by
  simp only [X_lean, X3e, X2e, X2s, X3s, X1e, X1ea, X1a, X1aa, X1s, XPr, XSet, XNew, XAlg, XDi] at h h'
  first
  | exact h.1.trans h'.1.symm
  | (rcases h with ⟨rfl, h⟩ | ⟨rfl, h⟩ <;> rcases h' with ⟨rfl, h'⟩ | ⟨rfl, h'⟩ <;> first | rfl | (exfalso; simp_all; done))
  | (rcases h with (⟨rfl, h⟩ | ⟨rfl, h⟩) | ⟨rfl, h⟩ <;> rcases h' with (⟨rfl, h'⟩ | ⟨rfl, h'⟩) | ⟨rfl, h'⟩ <;> first | rfl | (exfalso; simp_all; done))
  | (rcases h with ⟨rfl, h⟩ | ⟨rfl, h⟩ | ⟨rfl, h⟩ <;> rcases h' with ⟨rfl, h'⟩ | ⟨rfl, h'⟩ | ⟨rfl, h'⟩ <;> first | rfl | (exfalso; simp_all; done))
theorem Xi_lean {σ : St} {i : Int} {E : String} (h : X_lean σ i E) : E = IOB := by
  simp only [X_lean, X3e, X2e, X2s, X3s, X1e, X1ea, X1a, X1aa, X1s, XPr, XSet, XNew, XAlg, XDi] at h
  first
  | exact h.1
  | (rcases h with ⟨rfl, -⟩ | ⟨rfl, -⟩ <;> simp [IOB, IAE, ISE]; done)
  | (rcases h with (⟨rfl, -⟩ | ⟨rfl, -⟩) | ⟨rfl, -⟩ <;> simp [IOB, IAE, ISE]; done)
  | (rcases h with ⟨rfl, -⟩ | ⟨rfl, -⟩ | ⟨rfl, -⟩ <;> simp [IOB, IAE, ISE]; done)
theorem Xu_many {σ : St} {w : Int} {E E' : String} (h : X_many σ w E) (h' : X_many σ w E') : E = E' := by
  simp only [X_many, X3e, X2e, X2s, X3s, X1e, X1ea, X1a, X1aa, X1s, XPr, XSet, XNew, XAlg, XDi] at h h'
  first
  | exact h.1.trans h'.1.symm
  | (rcases h with ⟨rfl, h⟩ | ⟨rfl, h⟩ <;> rcases h' with ⟨rfl, h'⟩ | ⟨rfl, h'⟩ <;> first | rfl | (exfalso; simp_all; done))
  | (rcases h with (⟨rfl, h⟩ | ⟨rfl, h⟩) | ⟨rfl, h⟩ <;> rcases h' with (⟨rfl, h'⟩ | ⟨rfl, h'⟩) | ⟨rfl, h'⟩ <;> first | rfl | (exfalso; simp_all; done))
  | (rcases h with ⟨rfl, h⟩ | ⟨rfl, h⟩ | ⟨rfl, h⟩ <;> rcases h' with ⟨rfl, h'⟩ | ⟨rfl, h'⟩ | ⟨rfl, h'⟩ <;> first | rfl | (exfalso; simp_all; done))
theorem Xi_many {σ : St} {w : Int} {E : String} (h : X_many σ w E) : E = IAE := by
  simp only [X_many, X3e, X2e, X2s, X3s, X1e, X1ea, X1a, X1aa, X1s, XPr, XSet, XNew, XAlg, XDi] at h
  first
  | exact h.1
  | (rcases h with ⟨rfl, -⟩ | ⟨rfl, -⟩ <;> simp [IOB, IAE, ISE]; done)
  | (rcases h with (⟨rfl, -⟩ | ⟨rfl, -⟩) | ⟨rfl, -⟩ <;> simp [IOB, IAE, ISE]; done)
  | (rcases h with ⟨rfl, -⟩ | ⟨rfl, -⟩ | ⟨rfl, -⟩ <;> simp [IOB, IAE, ISE]; done)
theorem Xu_apart {σ : St} {i : Int} {j : Int} {E E' : String} (h : X_apart σ i j E) (h' : X_apart σ i j E') : E = E' := by
  simp only [X_apart, X3e, X2e, X2s, X3s, X1e, X1ea, X1a, X1aa, X1s, XPr, XSet, XNew, XAlg, XDi] at h h'
  first
  | exact h.1.trans h'.1.symm
  | (rcases h with ⟨rfl, h⟩ | ⟨rfl, h⟩ <;> rcases h' with ⟨rfl, h'⟩ | ⟨rfl, h'⟩ <;> first | rfl | (exfalso; simp_all; done))
  | (rcases h with (⟨rfl, h⟩ | ⟨rfl, h⟩) | ⟨rfl, h⟩ <;> rcases h' with (⟨rfl, h'⟩ | ⟨rfl, h'⟩) | ⟨rfl, h'⟩ <;> first | rfl | (exfalso; simp_all; done))
  | (rcases h with ⟨rfl, h⟩ | ⟨rfl, h⟩ | ⟨rfl, h⟩ <;> rcases h' with ⟨rfl, h'⟩ | ⟨rfl, h'⟩ | ⟨rfl, h'⟩ <;> first | rfl | (exfalso; simp_all; done))
theorem Xi_apart {σ : St} {i : Int} {j : Int} {E : String} (h : X_apart σ i j E) : E = IOB ∨ E = IAE := by
  simp only [X_apart, X3e, X2e, X2s, X3s, X1e, X1ea, X1a, X1aa, X1s, XPr, XSet, XNew, XAlg, XDi] at h
  first
  | exact h.1
  | (rcases h with ⟨rfl, -⟩ | ⟨rfl, -⟩ <;> simp [IOB, IAE, ISE]; done)
  | (rcases h with (⟨rfl, -⟩ | ⟨rfl, -⟩) | ⟨rfl, -⟩ <;> simp [IOB, IAE, ISE]; done)
  | (rcases h with ⟨rfl, -⟩ | ⟨rfl, -⟩ | ⟨rfl, -⟩ <;> simp [IOB, IAE, ISE]; done)
theorem Xu_row {σ : St} {i : Int} {z : Int} {E E' : String} (h : X_row σ i z E) (h' : X_row σ i z E') : E = E' := by
  simp only [X_row, X3e, X2e, X2s, X3s, X1e, X1ea, X1a, X1aa, X1s, XPr, XSet, XNew, XAlg, XDi] at h h'
  first
  | exact h.1.trans h'.1.symm
  | (rcases h with ⟨rfl, h⟩ | ⟨rfl, h⟩ <;> rcases h' with ⟨rfl, h'⟩ | ⟨rfl, h'⟩ <;> first | rfl | (exfalso; simp_all; done))
  | (rcases h with (⟨rfl, h⟩ | ⟨rfl, h⟩) | ⟨rfl, h⟩ <;> rcases h' with (⟨rfl, h'⟩ | ⟨rfl, h'⟩) | ⟨rfl, h'⟩ <;> first | rfl | (exfalso; simp_all; done))
  | (rcases h with ⟨rfl, h⟩ | ⟨rfl, h⟩ | ⟨rfl, h⟩ <;> rcases h' with ⟨rfl, h'⟩ | ⟨rfl, h'⟩ | ⟨rfl, h'⟩ <;> first | rfl | (exfalso; simp_all; done))
theorem Xi_row {σ : St} {i : Int} {z : Int} {E : String} (h : X_row σ i z E) : E = IOB ∨ E = IAE := by
  simp only [X_row, X3e, X2e, X2s, X3s, X1e, X1ea, X1a, X1aa, X1s, XPr, XSet, XNew, XAlg, XDi] at h
  first
  | exact h.1
  | (rcases h with ⟨rfl, -⟩ | ⟨rfl, -⟩ <;> simp [IOB, IAE, ISE]; done)
  | (rcases h with (⟨rfl, -⟩ | ⟨rfl, -⟩) | ⟨rfl, -⟩ <;> simp [IOB, IAE, ISE]; done)
  | (rcases h with ⟨rfl, -⟩ | ⟨rfl, -⟩ | ⟨rfl, -⟩ <;> simp [IOB, IAE, ISE]; done)
theorem Xu_match {σ : St} {i : Int} {j : Int} {E E' : String} (h : X_match σ i j E) (h' : X_match σ i j E') : E = E' := by
  simp only [X_match, X3e, X2e, X2s, X3s, X1e, X1ea, X1a, X1aa, X1s, XPr, XSet, XNew, XAlg, XDi] at h h'
  first
  | exact h.1.trans h'.1.symm
  | (rcases h with ⟨rfl, h⟩ | ⟨rfl, h⟩ <;> rcases h' with ⟨rfl, h'⟩ | ⟨rfl, h'⟩ <;> first | rfl | (exfalso; simp_all; done))
  | (rcases h with (⟨rfl, h⟩ | ⟨rfl, h⟩) | ⟨rfl, h⟩ <;> rcases h' with (⟨rfl, h'⟩ | ⟨rfl, h'⟩) | ⟨rfl, h'⟩ <;> first | rfl | (exfalso; simp_all; done))
  | (rcases h with ⟨rfl, h⟩ | ⟨rfl, h⟩ | ⟨rfl, h⟩ <;> rcases h' with ⟨rfl, h'⟩ | ⟨rfl, h'⟩ | ⟨rfl, h'⟩ <;> first | rfl | (exfalso; simp_all; done))
theorem Xi_match {σ : St} {i : Int} {j : Int} {E : String} (h : X_match σ i j E) : E = IOB := by
  simp only [X_match, X3e, X2e, X2s, X3s, X1e, X1ea, X1a, X1aa, X1s, XPr, XSet, XNew, XAlg, XDi] at h
  first
  | exact h.1
  | (rcases h with ⟨rfl, -⟩ | ⟨rfl, -⟩ <;> simp [IOB, IAE, ISE]; done)
  | (rcases h with (⟨rfl, -⟩ | ⟨rfl, -⟩) | ⟨rfl, -⟩ <;> simp [IOB, IAE, ISE]; done)
  | (rcases h with ⟨rfl, -⟩ | ⟨rfl, -⟩ | ⟨rfl, -⟩ <;> simp [IOB, IAE, ISE]; done)
theorem Xu_scaleOf {σ : St} {i : Int} {j : Int} {g : Int} {E E' : String} (h : X_scaleOf σ i j g E) (h' : X_scaleOf σ i j g E') : E = E' := by
  simp only [X_scaleOf, X3e, X2e, X2s, X3s, X1e, X1ea, X1a, X1aa, X1s, XPr, XSet, XNew, XAlg, XDi] at h h'
  first
  | exact h.1.trans h'.1.symm
  | (rcases h with ⟨rfl, h⟩ | ⟨rfl, h⟩ <;> rcases h' with ⟨rfl, h'⟩ | ⟨rfl, h'⟩ <;> first | rfl | (exfalso; simp_all; done))
  | (rcases h with (⟨rfl, h⟩ | ⟨rfl, h⟩) | ⟨rfl, h⟩ <;> rcases h' with (⟨rfl, h'⟩ | ⟨rfl, h'⟩) | ⟨rfl, h'⟩ <;> first | rfl | (exfalso; simp_all; done))
  | (rcases h with ⟨rfl, h⟩ | ⟨rfl, h⟩ | ⟨rfl, h⟩ <;> rcases h' with ⟨rfl, h'⟩ | ⟨rfl, h'⟩ | ⟨rfl, h'⟩ <;> first | rfl | (exfalso; simp_all; done))
theorem Xi_scaleOf {σ : St} {i : Int} {j : Int} {g : Int} {E : String} (h : X_scaleOf σ i j g E) : E = IOB := by
  simp only [X_scaleOf, X3e, X2e, X2s, X3s, X1e, X1ea, X1a, X1aa, X1s, XPr, XSet, XNew, XAlg, XDi] at h
  first
  | exact h.1
  | (rcases h with ⟨rfl, -⟩ | ⟨rfl, -⟩ <;> simp [IOB, IAE, ISE]; done)
  | (rcases h with (⟨rfl, -⟩ | ⟨rfl, -⟩) | ⟨rfl, -⟩ <;> simp [IOB, IAE, ISE]; done)
  | (rcases h with ⟨rfl, -⟩ | ⟨rfl, -⟩ | ⟨rfl, -⟩ <;> simp [IOB, IAE, ISE]; done)
theorem Rd_prime {σ : St} {z : Int} {y y' : Int} {σ1 σ2 : St} (h : R_prime σ z y σ1) (h' : R_prime σ z y' σ2) : y = y' ∧ σ1 = σ2 := by
  unfold R_prime at h h'
  obtain ⟨h0, h1, rfl, rfl⟩ := h
  obtain ⟨h09, h19, rfl, rfl⟩ := h'
  exact ⟨rfl, rfl⟩
theorem Rx_prime {σ : St} {z : Int} {y : Int} {σ1 : St} {E : String} (h : R_prime σ z y σ1) (h' : X_prime σ z E) : False := by
  unfold R_prime at h
  obtain ⟨h0, h1, h2, h3⟩ := h
  simp only [X_prime, X3e, X2e, X2s, X3s, X1e, X1ea, X1a, X1aa, X1s, XPr, XSet, XNew, XAlg, XDi, inE, inA, Int.toNat_natCast] at h'
  first
  | (exfalso; omega)
  | (rcases h' with ⟨-, h'⟩ | ⟨-, h'⟩ <;> first | omega | (simp_all; done) | (simp_all; omega))
  | (rcases h' with (⟨-, h'⟩ | ⟨-, h'⟩) | ⟨-, h'⟩ <;> first | omega | (simp_all; done) | (simp_all; omega))
  | (rcases h' with ⟨-, h'⟩ | ⟨-, h'⟩ | ⟨-, h'⟩ <;> first | omega | (simp_all; done) | (simp_all; omega))
  | (obtain ⟨-, h'⟩ := h'; first | omega | (simp_all; done) | (simp_all; omega))
theorem Rd_algebra {σ : St} {z : Int} {y y' : Int} {σ1 σ2 : St} (h : R_algebra σ z y σ1) (h' : R_algebra σ z y' σ2) : y = y' ∧ σ1 = σ2 := by
  unfold R_algebra at h h'
  obtain ⟨h0, h1, rfl, rfl⟩ := h
  obtain ⟨h09, h19, rfl, rfl⟩ := h'
  exact ⟨rfl, rfl⟩
theorem Rx_algebra {σ : St} {z : Int} {y : Int} {σ1 : St} {E : String} (h : R_algebra σ z y σ1) (h' : X_algebra σ z E) : False := by
  unfold R_algebra at h
  obtain ⟨h0, h1, h2, h3⟩ := h
  simp only [X_algebra, X3e, X2e, X2s, X3s, X1e, X1ea, X1a, X1aa, X1s, XPr, XSet, XNew, XAlg, XDi, inE, inA, Int.toNat_natCast] at h'
  first
  | (exfalso; omega)
  | (rcases h' with ⟨-, h'⟩ | ⟨-, h'⟩ <;> first | omega | (simp_all; done) | (simp_all; omega))
  | (rcases h' with (⟨-, h'⟩ | ⟨-, h'⟩) | ⟨-, h'⟩ <;> first | omega | (simp_all; done) | (simp_all; omega))
  | (rcases h' with ⟨-, h'⟩ | ⟨-, h'⟩ | ⟨-, h'⟩ <;> first | omega | (simp_all; done) | (simp_all; omega))
  | (obtain ⟨-, h'⟩ := h'; first | omega | (simp_all; done) | (simp_all; omega))
theorem Rd_dial {σ : St} {i : Int} {z : Int} {y y' : Int} {σ1 σ2 : St} (h : R_dial σ i z y σ1) (h' : R_dial σ i z y' σ2) : y = y' ∧ σ1 = σ2 := by
  unfold R_dial at h h'
  obtain ⟨k, ⟨ek, ck⟩, h1, h2, rfl, rfl⟩ := h
  obtain ⟨k9, ⟨ek9, ck9⟩, h19, h29, rfl, rfl⟩ := h'
  have qk : k9 = k := by omega
  subst qk
  exact ⟨rfl, rfl⟩
theorem Rx_dial {σ : St} {i : Int} {z : Int} {y : Int} {σ1 : St} {E : String} (h : R_dial σ i z y σ1) (h' : X_dial σ i z E) : False := by
  unfold R_dial at h
  obtain ⟨k, ⟨ek, ck⟩, h1, h2, h3, h4⟩ := h
  subst ek
  simp only [X_dial, X3e, X2e, X2s, X3s, X1e, X1ea, X1a, X1aa, X1s, XPr, XSet, XNew, XAlg, XDi, inE, inA, Int.toNat_natCast] at h'
  first
  | (exfalso; omega)
  | (rcases h' with ⟨-, h'⟩ | ⟨-, h'⟩ <;> first | omega | (simp_all; done) | (simp_all; omega))
  | (rcases h' with (⟨-, h'⟩ | ⟨-, h'⟩) | ⟨-, h'⟩ <;> first | omega | (simp_all; done) | (simp_all; omega))
  | (rcases h' with ⟨-, h'⟩ | ⟨-, h'⟩ | ⟨-, h'⟩ <;> first | omega | (simp_all; done) | (simp_all; omega))
  | (obtain ⟨-, h'⟩ := h'; first | omega | (simp_all; done) | (simp_all; omega))
theorem Rd_element {σ : St} {i : Int} {y y' : Int} {σ1 σ2 : St} (h : R_element σ i y σ1) (h' : R_element σ i y' σ2) : y = y' ∧ σ1 = σ2 := by
  unfold R_element at h h'
  obtain ⟨k, ⟨ek, ck⟩, h1, rfl, rfl⟩ := h
  obtain ⟨k9, ⟨ek9, ck9⟩, h19, rfl, rfl⟩ := h'
  have qk : k9 = k := by omega
  subst qk
  exact ⟨rfl, rfl⟩
theorem Rx_element {σ : St} {i : Int} {y : Int} {σ1 : St} {E : String} (h : R_element σ i y σ1) (h' : X_element σ i E) : False := by
  unfold R_element at h
  obtain ⟨k, ⟨ek, ck⟩, h1, h2, h3⟩ := h
  subst ek
  simp only [X_element, X3e, X2e, X2s, X3s, X1e, X1ea, X1a, X1aa, X1s, XPr, XSet, XNew, XAlg, XDi, inE, inA, Int.toNat_natCast] at h'
  first
  | (exfalso; omega)
  | (rcases h' with ⟨-, h'⟩ | ⟨-, h'⟩ <;> first | omega | (simp_all; done) | (simp_all; omega))
  | (rcases h' with (⟨-, h'⟩ | ⟨-, h'⟩) | ⟨-, h'⟩ <;> first | omega | (simp_all; done) | (simp_all; omega))
  | (rcases h' with ⟨-, h'⟩ | ⟨-, h'⟩ | ⟨-, h'⟩ <;> first | omega | (simp_all; done) | (simp_all; omega))
  | (obtain ⟨-, h'⟩ := h'; first | omega | (simp_all; done) | (simp_all; omega))
theorem Rd_set {σ : St} {i : Int} {u : Int} {z : Int} {y y' : Int} {σ1 σ2 : St} (h : R_set σ i u z y σ1) (h' : R_set σ i u z y' σ2) : y = y' ∧ σ1 = σ2 := by
  unfold R_set at h h'
  obtain ⟨a, c, ⟨ea, ca⟩, ⟨ec, cc⟩, h2, rfl, rfl⟩ := h
  obtain ⟨a9, c9, ⟨ea9, ca9⟩, ⟨ec9, cc9⟩, h29, rfl, rfl⟩ := h'
  have qa : a9 = a := by omega
  subst qa
  have qc : c9 = c := by omega
  subst qc
  exact ⟨rfl, rfl⟩
theorem Rx_set {σ : St} {i : Int} {u : Int} {z : Int} {y : Int} {σ1 : St} {E : String} (h : R_set σ i u z y σ1) (h' : X_set σ i u z E) : False := by
  unfold R_set at h
  obtain ⟨a, c, ⟨ea, ca⟩, ⟨ec, cc⟩, h2, h3, h4⟩ := h
  subst ea
  subst ec
  simp only [X_set, X3e, X2e, X2s, X3s, X1e, X1ea, X1a, X1aa, X1s, XPr, XSet, XNew, XAlg, XDi, inE, inA, Int.toNat_natCast] at h'
  first
  | (exfalso; omega)
  | (rcases h' with ⟨-, h'⟩ | ⟨-, h'⟩ <;> first | omega | (simp_all; done) | (simp_all; omega))
  | (rcases h' with (⟨-, h'⟩ | ⟨-, h'⟩) | ⟨-, h'⟩ <;> first | omega | (simp_all; done) | (simp_all; omega))
  | (rcases h' with ⟨-, h'⟩ | ⟨-, h'⟩ | ⟨-, h'⟩ <;> first | omega | (simp_all; done) | (simp_all; omega))
  | (obtain ⟨-, h'⟩ := h'; first | omega | (simp_all; done) | (simp_all; omega))
theorem Rd_sum {σ : St} {i : Int} {j : Int} {k : Int} {y y' : Int} {σ1 σ2 : St} (h : R_sum σ i j k y σ1) (h' : R_sum σ i j k y' σ2) : y = y' ∧ σ1 = σ2 := by
  unfold R_sum at h h'
  obtain ⟨a, b, c, ⟨ea, ca⟩, ⟨eb, cb⟩, ⟨ec, cc⟩, h3, rfl, rfl⟩ := h
  obtain ⟨a9, b9, c9, ⟨ea9, ca9⟩, ⟨eb9, cb9⟩, ⟨ec9, cc9⟩, h39, rfl, rfl⟩ := h'
  have qa : a9 = a := by omega
  subst qa
  have qb : b9 = b := by omega
  subst qb
  have qc : c9 = c := by omega
  subst qc
  exact ⟨rfl, rfl⟩
theorem Rx_sum {σ : St} {i : Int} {j : Int} {k : Int} {y : Int} {σ1 : St} {E : String} (h : R_sum σ i j k y σ1) (h' : X_sum σ i j k E) : False := by
  unfold R_sum at h
  obtain ⟨a, b, c, ⟨ea, ca⟩, ⟨eb, cb⟩, ⟨ec, cc⟩, h3, h4, h5⟩ := h
  subst ea
  subst eb
  subst ec
  simp only [X_sum, X3e, X2e, X2s, X3s, X1e, X1ea, X1a, X1aa, X1s, XPr, XSet, XNew, XAlg, XDi, inE, inA, Int.toNat_natCast] at h'
  first
  | (exfalso; omega)
  | (rcases h' with ⟨-, h'⟩ | ⟨-, h'⟩ <;> first | omega | (simp_all; done) | (simp_all; omega))
  | (rcases h' with (⟨-, h'⟩ | ⟨-, h'⟩) | ⟨-, h'⟩ <;> first | omega | (simp_all; done) | (simp_all; omega))
  | (rcases h' with ⟨-, h'⟩ | ⟨-, h'⟩ | ⟨-, h'⟩ <;> first | omega | (simp_all; done) | (simp_all; omega))
  | (obtain ⟨-, h'⟩ := h'; first | omega | (simp_all; done) | (simp_all; omega))
theorem Rd_product {σ : St} {i : Int} {j : Int} {k : Int} {y y' : Int} {σ1 σ2 : St} (h : R_product σ i j k y σ1) (h' : R_product σ i j k y' σ2) : y = y' ∧ σ1 = σ2 := by
  unfold R_product at h h'
  obtain ⟨a, b, c, ⟨ea, ca⟩, ⟨eb, cb⟩, ⟨ec, cc⟩, h3, rfl, rfl⟩ := h
  obtain ⟨a9, b9, c9, ⟨ea9, ca9⟩, ⟨eb9, cb9⟩, ⟨ec9, cc9⟩, h39, rfl, rfl⟩ := h'
  have qa : a9 = a := by omega
  subst qa
  have qb : b9 = b := by omega
  subst qb
  have qc : c9 = c := by omega
  subst qc
  exact ⟨rfl, rfl⟩
theorem Rx_product {σ : St} {i : Int} {j : Int} {k : Int} {y : Int} {σ1 : St} {E : String} (h : R_product σ i j k y σ1) (h' : X_product σ i j k E) : False := by
  unfold R_product at h
  obtain ⟨a, b, c, ⟨ea, ca⟩, ⟨eb, cb⟩, ⟨ec, cc⟩, h3, h4, h5⟩ := h
  subst ea
  subst eb
  subst ec
  simp only [X_product, X3e, X2e, X2s, X3s, X1e, X1ea, X1a, X1aa, X1s, XPr, XSet, XNew, XAlg, XDi, inE, inA, Int.toNat_natCast] at h'
  first
  | (exfalso; omega)
  | (rcases h' with ⟨-, h'⟩ | ⟨-, h'⟩ <;> first | omega | (simp_all; done) | (simp_all; omega))
  | (rcases h' with (⟨-, h'⟩ | ⟨-, h'⟩) | ⟨-, h'⟩ <;> first | omega | (simp_all; done) | (simp_all; omega))
  | (rcases h' with ⟨-, h'⟩ | ⟨-, h'⟩ | ⟨-, h'⟩ <;> first | omega | (simp_all; done) | (simp_all; omega))
  | (obtain ⟨-, h'⟩ := h'; first | omega | (simp_all; done) | (simp_all; omega))
theorem Rd_scale {σ : St} {i : Int} {j : Int} {t : Int} {y y' : Int} {σ1 σ2 : St} (h : R_scale σ i j t y σ1) (h' : R_scale σ i j t y' σ2) : y = y' ∧ σ1 = σ2 := by
  unfold R_scale at h h'
  obtain ⟨a, b, ⟨ea, ca⟩, ⟨eb, cb⟩, h2, h3, rfl, rfl⟩ := h
  obtain ⟨a9, b9, ⟨ea9, ca9⟩, ⟨eb9, cb9⟩, h29, h39, rfl, rfl⟩ := h'
  have qa : a9 = a := by omega
  subst qa
  have qb : b9 = b := by omega
  subst qb
  exact ⟨rfl, rfl⟩
theorem Rx_scale {σ : St} {i : Int} {j : Int} {t : Int} {y : Int} {σ1 : St} {E : String} (h : R_scale σ i j t y σ1) (h' : X_scale σ i j t E) : False := by
  unfold R_scale at h
  obtain ⟨a, b, ⟨ea, ca⟩, ⟨eb, cb⟩, h2, h3, h4, h5⟩ := h
  subst ea
  subst eb
  simp only [X_scale, X3e, X2e, X2s, X3s, X1e, X1ea, X1a, X1aa, X1s, XPr, XSet, XNew, XAlg, XDi, inE, inA, Int.toNat_natCast] at h'
  first
  | (exfalso; omega)
  | (rcases h' with ⟨-, h'⟩ | ⟨-, h'⟩ <;> first | omega | (simp_all; done) | (simp_all; omega))
  | (rcases h' with (⟨-, h'⟩ | ⟨-, h'⟩) | ⟨-, h'⟩ <;> first | omega | (simp_all; done) | (simp_all; omega))
  | (rcases h' with ⟨-, h'⟩ | ⟨-, h'⟩ | ⟨-, h'⟩ <;> first | omega | (simp_all; done) | (simp_all; omega))
  | (obtain ⟨-, h'⟩ := h'; first | omega | (simp_all; done) | (simp_all; omega))
theorem Rd_conjugate {σ : St} {i : Int} {j : Int} {y y' : Int} {σ1 σ2 : St} (h : R_conjugate σ i j y σ1) (h' : R_conjugate σ i j y' σ2) : y = y' ∧ σ1 = σ2 := by
  unfold R_conjugate at h h'
  obtain ⟨a, b, ⟨ea, ca⟩, ⟨eb, cb⟩, h2, rfl, rfl⟩ := h
  obtain ⟨a9, b9, ⟨ea9, ca9⟩, ⟨eb9, cb9⟩, h29, rfl, rfl⟩ := h'
  have qa : a9 = a := by omega
  subst qa
  have qb : b9 = b := by omega
  subst qb
  exact ⟨rfl, rfl⟩
theorem Rx_conjugate {σ : St} {i : Int} {j : Int} {y : Int} {σ1 : St} {E : String} (h : R_conjugate σ i j y σ1) (h' : X_conjugate σ i j E) : False := by
  unfold R_conjugate at h
  obtain ⟨a, b, ⟨ea, ca⟩, ⟨eb, cb⟩, h2, h3, h4⟩ := h
  subst ea
  subst eb
  simp only [X_conjugate, X3e, X2e, X2s, X3s, X1e, X1ea, X1a, X1aa, X1s, XPr, XSet, XNew, XAlg, XDi, inE, inA, Int.toNat_natCast] at h'
  first
  | (exfalso; omega)
  | (rcases h' with ⟨-, h'⟩ | ⟨-, h'⟩ <;> first | omega | (simp_all; done) | (simp_all; omega))
  | (rcases h' with (⟨-, h'⟩ | ⟨-, h'⟩) | ⟨-, h'⟩ <;> first | omega | (simp_all; done) | (simp_all; omega))
  | (rcases h' with ⟨-, h'⟩ | ⟨-, h'⟩ | ⟨-, h'⟩ <;> first | omega | (simp_all; done) | (simp_all; omega))
  | (obtain ⟨-, h'⟩ := h'; first | omega | (simp_all; done) | (simp_all; omega))
theorem Rd_power {σ : St} {i : Int} {j : Int} {t : Int} {y y' : Int} {σ1 σ2 : St} (h : R_power σ i j t y σ1) (h' : R_power σ i j t y' σ2) : y = y' ∧ σ1 = σ2 := by
  unfold R_power at h h'
  obtain ⟨a, b, ⟨ea, ca⟩, ⟨eb, cb⟩, h2, h3, rfl, rfl⟩ := h
  obtain ⟨a9, b9, ⟨ea9, ca9⟩, ⟨eb9, cb9⟩, h29, h39, rfl, rfl⟩ := h'
  have qa : a9 = a := by omega
  subst qa
  have qb : b9 = b := by omega
  subst qb
  exact ⟨rfl, rfl⟩
theorem Rx_power {σ : St} {i : Int} {j : Int} {t : Int} {y : Int} {σ1 : St} {E : String} (h : R_power σ i j t y σ1) (h' : X_power σ i j t E) : False := by
  unfold R_power at h
  obtain ⟨a, b, ⟨ea, ca⟩, ⟨eb, cb⟩, h2, h3, h4, h5⟩ := h
  subst ea
  subst eb
  simp only [X_power, X3e, X2e, X2s, X3s, X1e, X1ea, X1a, X1aa, X1s, XPr, XSet, XNew, XAlg, XDi, inE, inA, Int.toNat_natCast] at h'
  first
  | (exfalso; omega)
  | (rcases h' with ⟨-, h'⟩ | ⟨-, h'⟩ <;> first | omega | (simp_all; done) | (simp_all; omega))
  | (rcases h' with (⟨-, h'⟩ | ⟨-, h'⟩) | ⟨-, h'⟩ <;> first | omega | (simp_all; done) | (simp_all; omega))
  | (rcases h' with ⟨-, h'⟩ | ⟨-, h'⟩ | ⟨-, h'⟩ <;> first | omega | (simp_all; done) | (simp_all; omega))
  | (obtain ⟨-, h'⟩ := h'; first | omega | (simp_all; done) | (simp_all; omega))
theorem Rd_invert {σ : St} {i : Int} {j : Int} {y y' : Int} {σ1 σ2 : St} (h : R_invert σ i j y σ1) (h' : R_invert σ i j y' σ2) : y = y' ∧ σ1 = σ2 := by
  unfold R_invert at h h'
  obtain ⟨a, b, ⟨ea, ca⟩, ⟨eb, cb⟩, h2, h3, rfl, rfl⟩ := h
  obtain ⟨a9, b9, ⟨ea9, ca9⟩, ⟨eb9, cb9⟩, h29, h39, rfl, rfl⟩ := h'
  have qa : a9 = a := by omega
  subst qa
  have qb : b9 = b := by omega
  subst qb
  exact ⟨rfl, rfl⟩
theorem Rx_invert {σ : St} {i : Int} {j : Int} {y : Int} {σ1 : St} {E : String} (h : R_invert σ i j y σ1) (h' : X_invert σ i j E) : False := by
  unfold R_invert at h
  obtain ⟨a, b, ⟨ea, ca⟩, ⟨eb, cb⟩, h2, h3, h4, h5⟩ := h
  subst ea
  subst eb
  simp only [X_invert, X3e, X2e, X2s, X3s, X1e, X1ea, X1a, X1aa, X1s, XPr, XSet, XNew, XAlg, XDi, inE, inA, Int.toNat_natCast] at h'
  first
  | (exfalso; omega)
  | (rcases h' with ⟨-, h'⟩ | ⟨-, h'⟩ <;> first | omega | (simp_all; done) | (simp_all; omega))
  | (rcases h' with (⟨-, h'⟩ | ⟨-, h'⟩) | ⟨-, h'⟩ <;> first | omega | (simp_all; done) | (simp_all; omega))
  | (rcases h' with ⟨-, h'⟩ | ⟨-, h'⟩ | ⟨-, h'⟩ <;> first | omega | (simp_all; done) | (simp_all; omega))
  | (obtain ⟨-, h'⟩ := h'; first | omega | (simp_all; done) | (simp_all; omega))
theorem Rd_series {σ : St} {i : Int} {j : Int} {y y' : Int} {σ1 σ2 : St} (h : R_series σ i j y σ1) (h' : R_series σ i j y' σ2) : y = y' ∧ σ1 = σ2 := by
  unfold R_series at h h'
  obtain ⟨a, b, ⟨ea, ca⟩, ⟨eb, cb⟩, h2, h3, rfl, rfl⟩ := h
  obtain ⟨a9, b9, ⟨ea9, ca9⟩, ⟨eb9, cb9⟩, h29, h39, rfl, rfl⟩ := h'
  have qa : a9 = a := by omega
  subst qa
  have qb : b9 = b := by omega
  subst qb
  exact ⟨rfl, rfl⟩
theorem Rx_series {σ : St} {i : Int} {j : Int} {y : Int} {σ1 : St} {E : String} (h : R_series σ i j y σ1) (h' : X_series σ i j E) : False := by
  unfold R_series at h
  obtain ⟨a, b, ⟨ea, ca⟩, ⟨eb, cb⟩, h2, h3, h4, h5⟩ := h
  subst ea
  subst eb
  simp only [X_series, X3e, X2e, X2s, X3s, X1e, X1ea, X1a, X1aa, X1s, XPr, XSet, XNew, XAlg, XDi, inE, inA, Int.toNat_natCast] at h'
  first
  | (exfalso; omega)
  | (rcases h' with ⟨-, h'⟩ | ⟨-, h'⟩ <;> first | omega | (simp_all; done) | (simp_all; omega))
  | (rcases h' with (⟨-, h'⟩ | ⟨-, h'⟩) | ⟨-, h'⟩ <;> first | omega | (simp_all; done) | (simp_all; omega))
  | (rcases h' with ⟨-, h'⟩ | ⟨-, h'⟩ | ⟨-, h'⟩ <;> first | omega | (simp_all; done) | (simp_all; omega))
  | (obtain ⟨-, h'⟩ := h'; first | omega | (simp_all; done) | (simp_all; omega))
theorem Rx_killer {σ : St} {i : Int} {j : Int} {y : Int} {σ1 : St} {E : String} (h : R_killer σ i j y σ1) (h' : X_killer σ i j E) : False := by
  unfold R_killer at h
  obtain ⟨a, b, c, w, ⟨ea, ca⟩, ⟨eb, cb⟩, h2, h3, h4, h5⟩ := h
  subst ea
  subst eb
  simp only [X_killer, X3e, X2e, X2s, X3s, X1e, X1ea, X1a, X1aa, X1s, XPr, XSet, XNew, XAlg, XDi, inE, inA, Int.toNat_natCast] at h'
  obtain ⟨k1, k2, k3⟩ := h3
  have hf : freeCol (St_p σ) (St_n σ (St_ea σ b)) (mxV (St_p σ) (St_ev σ b) (St_sg σ (St_ea σ b)) 1) c := by
    rw [← h2]; exact ⟨w, k3.1, k3.2.1, k3.2.2.2⟩
  have hc9 : c < St_n σ (St_ea σ b) := by rw [← h2]; exact k1
  rcases h' with (⟨-, h'⟩ | ⟨-, h'⟩) | ⟨-, h'⟩
  · exact h' ⟨⟨by omega, by omega⟩, by omega, by omega⟩
  · exact h'.2.2 ⟨h2, trivial⟩
  · exact h'.2.2.2 c hc9 hf
theorem Rd_hang {σ : St} {i : Int} {y y' : Int} {σ1 σ2 : St} (h : R_hang σ i y σ1) (h' : R_hang σ i y' σ2) : y = y' ∧ σ1 = σ2 := by
  unfold R_hang at h h'
  obtain ⟨a, ⟨ea, ca⟩, h1, rfl, rfl⟩ := h
  obtain ⟨a9, ⟨ea9, ca9⟩, h19, rfl, rfl⟩ := h'
  have qa : a9 = a := by omega
  subst qa
  exact ⟨rfl, rfl⟩
theorem Rx_hang {σ : St} {i : Int} {y : Int} {σ1 : St} {E : String} (h : R_hang σ i y σ1) (h' : X_hang σ i E) : False := by
  unfold R_hang at h
  obtain ⟨a, ⟨ea, ca⟩, h1, h2, h3⟩ := h
  subst ea
  simp only [X_hang, X3e, X2e, X2s, X3s, X1e, X1ea, X1a, X1aa, X1s, XPr, XSet, XNew, XAlg, XDi, inE, inA, Int.toNat_natCast] at h'
  first
  | (exfalso; omega)
  | (rcases h' with ⟨-, h'⟩ | ⟨-, h'⟩ <;> first | omega | (simp_all; done) | (simp_all; omega))
  | (rcases h' with (⟨-, h'⟩ | ⟨-, h'⟩) | ⟨-, h'⟩ <;> first | omega | (simp_all; done) | (simp_all; omega))
  | (rcases h' with ⟨-, h'⟩ | ⟨-, h'⟩ | ⟨-, h'⟩ <;> first | omega | (simp_all; done) | (simp_all; omega))
  | (obtain ⟨-, h'⟩ := h'; first | omega | (simp_all; done) | (simp_all; omega))
theorem Rd_clear {σ : St} {i : Int} {y y' : Int} {σ1 σ2 : St} (h : R_clear σ i y σ1) (h' : R_clear σ i y' σ2) : y = y' ∧ σ1 = σ2 := by
  unfold R_clear at h h'
  obtain ⟨k, ⟨ek, ck⟩, rfl, rfl⟩ := h
  obtain ⟨k9, ⟨ek9, ck9⟩, rfl, rfl⟩ := h'
  have qk : k9 = k := by omega
  subst qk
  exact ⟨rfl, rfl⟩
theorem Rx_clear {σ : St} {i : Int} {y : Int} {σ1 : St} {E : String} (h : R_clear σ i y σ1) (h' : X_clear σ i E) : False := by
  unfold R_clear at h
  obtain ⟨k, ⟨ek, ck⟩, h1, h2⟩ := h
  subst ek
  simp only [X_clear, X3e, X2e, X2s, X3s, X1e, X1ea, X1a, X1aa, X1s, XPr, XSet, XNew, XAlg, XDi, inE, inA, Int.toNat_natCast] at h'
  first
  | (exfalso; omega)
  | (rcases h' with ⟨-, h'⟩ | ⟨-, h'⟩ <;> first | omega | (simp_all; done) | (simp_all; omega))
  | (rcases h' with (⟨-, h'⟩ | ⟨-, h'⟩) | ⟨-, h'⟩ <;> first | omega | (simp_all; done) | (simp_all; omega))
  | (rcases h' with ⟨-, h'⟩ | ⟨-, h'⟩ | ⟨-, h'⟩ <;> first | omega | (simp_all; done) | (simp_all; omega))
  | (obtain ⟨-, h'⟩ := h'; first | omega | (simp_all; done) | (simp_all; omega))
theorem Rd_mirror {σ : St} {i : Int} {j : Int} {k : Int} {y y' : Int} {σ1 σ2 : St} (h : R_mirror σ i j k y σ1) (h' : R_mirror σ i j k y' σ2) : y = y' ∧ σ1 = σ2 := by
  unfold R_mirror at h h'
  obtain ⟨a, b, c, ⟨ea, ca⟩, ⟨eb, cb⟩, ⟨ec, cc⟩, h3, h4, rfl, rfl⟩ := h
  obtain ⟨a9, b9, c9, ⟨ea9, ca9⟩, ⟨eb9, cb9⟩, ⟨ec9, cc9⟩, h39, h49, rfl, rfl⟩ := h'
  have qa : a9 = a := by omega
  subst qa
  have qb : b9 = b := by omega
  subst qb
  have qc : c9 = c := by omega
  subst qc
  exact ⟨rfl, rfl⟩
theorem Rx_mirror {σ : St} {i : Int} {j : Int} {k : Int} {y : Int} {σ1 : St} {E : String} (h : R_mirror σ i j k y σ1) (h' : X_mirror σ i j k E) : False := by
  unfold R_mirror at h
  obtain ⟨a, b, c, ⟨ea, ca⟩, ⟨eb, cb⟩, ⟨ec, cc⟩, h3, h4, h5, h6⟩ := h
  subst ea
  subst eb
  subst ec
  simp only [X_mirror, X3e, X2e, X2s, X3s, X1e, X1ea, X1a, X1aa, X1s, XPr, XSet, XNew, XAlg, XDi, inE, inA, Int.toNat_natCast] at h'
  first
  | (exfalso; omega)
  | (rcases h' with ⟨-, h'⟩ | ⟨-, h'⟩ <;> first | omega | (simp_all; done) | (simp_all; omega))
  | (rcases h' with (⟨-, h'⟩ | ⟨-, h'⟩) | ⟨-, h'⟩ <;> first | omega | (simp_all; done) | (simp_all; omega))
  | (rcases h' with ⟨-, h'⟩ | ⟨-, h'⟩ | ⟨-, h'⟩ <;> first | omega | (simp_all; done) | (simp_all; omega))
  | (obtain ⟨-, h'⟩ := h'; first | omega | (simp_all; done) | (simp_all; omega))
theorem Rd_turn {σ : St} {i : Int} {j : Int} {y y' : Int} {σ1 σ2 : St} (h : R_turn σ i j y σ1) (h' : R_turn σ i j y' σ2) : y = y' ∧ σ1 = σ2 := by
  unfold R_turn at h h'
  obtain ⟨a, b, ⟨ea, ca⟩, ⟨eb, cb⟩, h2, h3, rfl, rfl⟩ := h
  obtain ⟨a9, b9, ⟨ea9, ca9⟩, ⟨eb9, cb9⟩, h29, h39, rfl, rfl⟩ := h'
  have qa : a9 = a := by omega
  subst qa
  have qb : b9 = b := by omega
  subst qb
  exact ⟨rfl, rfl⟩
theorem Rx_turn {σ : St} {i : Int} {j : Int} {y : Int} {σ1 : St} {E : String} (h : R_turn σ i j y σ1) (h' : X_turn σ i j E) : False := by
  unfold R_turn at h
  obtain ⟨a, b, ⟨ea, ca⟩, ⟨eb, cb⟩, h2, h3, h4, h5⟩ := h
  subst ea
  subst eb
  simp only [X_turn, X3e, X2e, X2s, X3s, X1e, X1ea, X1a, X1aa, X1s, XPr, XSet, XNew, XAlg, XDi, inE, inA, Int.toNat_natCast] at h'
  first
  | (exfalso; omega)
  | (rcases h' with ⟨-, h'⟩ | ⟨-, h'⟩ <;> first | omega | (simp_all; done) | (simp_all; omega))
  | (rcases h' with (⟨-, h'⟩ | ⟨-, h'⟩) | ⟨-, h'⟩ <;> first | omega | (simp_all; done) | (simp_all; omega))
  | (rcases h' with ⟨-, h'⟩ | ⟨-, h'⟩ | ⟨-, h'⟩ <;> first | omega | (simp_all; done) | (simp_all; omega))
  | (obtain ⟨-, h'⟩ := h'; first | omega | (simp_all; done) | (simp_all; omega))
theorem Rd_versor {σ : St} {i : Int} {y y' : Int} {σ1 σ2 : St} (h : R_versor σ i y σ1) (h' : R_versor σ i y' σ2) : y = y' ∧ σ1 = σ2 := by
  unfold R_versor at h h'
  obtain ⟨a, ⟨ea, ca⟩, h1, rfl, rfl⟩ := h
  obtain ⟨a9, ⟨ea9, ca9⟩, h19, rfl, rfl⟩ := h'
  have qa : a9 = a := by omega
  subst qa
  exact ⟨rfl, rfl⟩
theorem Rx_versor {σ : St} {i : Int} {y : Int} {σ1 : St} {E : String} (h : R_versor σ i y σ1) (h' : X_versor σ i E) : False := by
  unfold R_versor at h
  obtain ⟨a, ⟨ea, ca⟩, h1, h2, h3⟩ := h
  subst ea
  simp only [X_versor, X3e, X2e, X2s, X3s, X1e, X1ea, X1a, X1aa, X1s, XPr, XSet, XNew, XAlg, XDi, inE, inA, Int.toNat_natCast] at h'
  first
  | (exfalso; omega)
  | (rcases h' with ⟨-, h'⟩ | ⟨-, h'⟩ <;> first | omega | (simp_all; done) | (simp_all; omega))
  | (rcases h' with (⟨-, h'⟩ | ⟨-, h'⟩) | ⟨-, h'⟩ <;> first | omega | (simp_all; done) | (simp_all; omega))
  | (rcases h' with ⟨-, h'⟩ | ⟨-, h'⟩ | ⟨-, h'⟩ <;> first | omega | (simp_all; done) | (simp_all; omega))
  | (obtain ⟨-, h'⟩ := h'; first | omega | (simp_all; done) | (simp_all; omega))
theorem Rd_run {σ : St} {i : Int} {w : Int} {y y' : Int} {σ1 σ2 : St} (h : R_run σ i w y σ1) (h' : R_run σ i w y' σ2) : y = y' ∧ σ1 = σ2 := by
  unfold R_run at h h'
  obtain ⟨a, v, ⟨ea, ca⟩, -, hr, rfl, rfl⟩ := h
  obtain ⟨a9, v9, ⟨ea9, ca9⟩, -, hr9, rfl, rfl⟩ := h'
  have qa : a9 = a := by omega
  subst qa
  rw [hr] at hr9
  injection hr9 with hr9
  injection hr9 with _ hr9
  subst hr9
  exact ⟨rfl, rfl⟩
theorem Rx_run {σ : St} {i : Int} {w : Int} {y : Int} {σ1 : St} {E : String} (h : R_run σ i w y σ1) (h' : X_run σ i w E) : False := by
  unfold R_run at h
  obtain ⟨a, v, ⟨ea, ca⟩, h1, h2, h3, h4⟩ := h
  subst ea
  simp only [X_run, X3e, X2e, X2s, X3s, X1e, X1ea, X1a, X1aa, X1s, XPr, XSet, XNew, XAlg, XDi, inE, inA, Int.toNat_natCast] at h'
  first
  | (exfalso; omega)
  | (rcases h' with ⟨-, h'⟩ | ⟨-, h'⟩ <;> first | omega | (simp_all; done) | (simp_all; omega))
  | (rcases h' with (⟨-, h'⟩ | ⟨-, h'⟩) | ⟨-, h'⟩ <;> first | omega | (simp_all; done) | (simp_all; omega))
  | (rcases h' with ⟨-, h'⟩ | ⟨-, h'⟩ | ⟨-, h'⟩ <;> first | omega | (simp_all; done) | (simp_all; omega))
  | (obtain ⟨-, h'⟩ := h'; first | omega | (simp_all; done) | (simp_all; omega))
theorem Rd_at {σ : St} {i : Int} {u : Int} {y y' : Int} {σ1 σ2 : St} (h : R_at σ i u y σ1) (h' : R_at σ i u y' σ2) : y = y' ∧ σ1 = σ2 := by
  unfold R_at at h h'
  obtain ⟨rfl, a, c, ⟨ea, ca⟩, ⟨ec, cc⟩, rfl⟩ := h
  obtain ⟨rfl, a9, c9, ⟨ea9, ca9⟩, ⟨ec9, cc9⟩, rfl⟩ := h'
  have qa : a9 = a := by omega
  subst qa
  have qc : c9 = c := by omega
  subst qc
  exact ⟨rfl, rfl⟩
theorem Rx_at {σ : St} {i : Int} {u : Int} {y : Int} {σ1 : St} {E : String} (h : R_at σ i u y σ1) (h' : X_at σ i u E) : False := by
  unfold R_at at h
  obtain ⟨rfl, a, c, ⟨ea, ca⟩, ⟨ec, cc⟩, h2⟩ := h
  subst ea
  subst ec
  simp only [X_at, X3e, X2e, X2s, X3s, X1e, X1ea, X1a, X1aa, X1s, XPr, XSet, XNew, XAlg, XDi, inE, inA, Int.toNat_natCast] at h'
  first
  | (exfalso; omega)
  | (rcases h' with ⟨-, h'⟩ | ⟨-, h'⟩ <;> first | omega | (simp_all; done) | (simp_all; omega))
  | (rcases h' with (⟨-, h'⟩ | ⟨-, h'⟩) | ⟨-, h'⟩ <;> first | omega | (simp_all; done) | (simp_all; omega))
  | (rcases h' with ⟨-, h'⟩ | ⟨-, h'⟩ | ⟨-, h'⟩ <;> first | omega | (simp_all; done) | (simp_all; omega))
  | (obtain ⟨-, h'⟩ := h'; first | omega | (simp_all; done) | (simp_all; omega))
theorem Rd_ofElement {σ : St} {i : Int} {w : Int} {y y' : Int} {σ1 σ2 : St} (h : R_ofElement σ i w y σ1) (h' : R_ofElement σ i w y' σ2) : y = y' ∧ σ1 = σ2 := by
  unfold R_ofElement at h h'
  obtain ⟨rfl, a, t, ⟨ea, ca⟩, ⟨et, ct⟩, rfl⟩ := h
  obtain ⟨rfl, a9, t9, ⟨ea9, ca9⟩, ⟨et9, ct9⟩, rfl⟩ := h'
  have qa : a9 = a := by omega
  subst qa
  have qt : t9 = t := by omega
  subst qt
  exact ⟨rfl, rfl⟩
theorem Rx_ofElement {σ : St} {i : Int} {w : Int} {y : Int} {σ1 : St} {E : String} (h : R_ofElement σ i w y σ1) (h' : X_ofElement σ i w E) : False := by
  unfold R_ofElement at h
  obtain ⟨rfl, a, t, ⟨ea, ca⟩, ⟨et, ct⟩, h2⟩ := h
  subst ea
  subst et
  simp only [X_ofElement, X3e, X2e, X2s, X3s, X1e, X1ea, X1a, X1aa, X1s, XPr, XSet, XNew, XAlg, XDi, inE, inA, Int.toNat_natCast] at h'
  first
  | (exfalso; omega)
  | (rcases h' with ⟨-, h'⟩ | ⟨-, h'⟩ <;> first | omega | (simp_all; done) | (simp_all; omega))
  | (rcases h' with (⟨-, h'⟩ | ⟨-, h'⟩) | ⟨-, h'⟩ <;> first | omega | (simp_all; done) | (simp_all; omega))
  | (rcases h' with ⟨-, h'⟩ | ⟨-, h'⟩ | ⟨-, h'⟩ <;> first | omega | (simp_all; done) | (simp_all; omega))
  | (obtain ⟨-, h'⟩ := h'; first | omega | (simp_all; done) | (simp_all; omega))
theorem Rd_ofAlgebra {σ : St} {i : Int} {w : Int} {y y' : Int} {σ1 σ2 : St} (h : R_ofAlgebra σ i w y σ1) (h' : R_ofAlgebra σ i w y' σ2) : y = y' ∧ σ1 = σ2 := by
  unfold R_ofAlgebra at h h'
  obtain ⟨rfl, k, t, ⟨ek, ck⟩, ⟨et, ct⟩, rfl⟩ := h
  obtain ⟨rfl, k9, t9, ⟨ek9, ck9⟩, ⟨et9, ct9⟩, rfl⟩ := h'
  have qk : k9 = k := by omega
  subst qk
  have qt : t9 = t := by omega
  subst qt
  exact ⟨rfl, rfl⟩
theorem Rx_ofAlgebra {σ : St} {i : Int} {w : Int} {y : Int} {σ1 : St} {E : String} (h : R_ofAlgebra σ i w y σ1) (h' : X_ofAlgebra σ i w E) : False := by
  unfold R_ofAlgebra at h
  obtain ⟨rfl, k, t, ⟨ek, ck⟩, ⟨et, ct⟩, h2⟩ := h
  subst ek
  subst et
  simp only [X_ofAlgebra, X3e, X2e, X2s, X3s, X1e, X1ea, X1a, X1aa, X1s, XPr, XSet, XNew, XAlg, XDi, inE, inA, Int.toNat_natCast] at h'
  first
  | (exfalso; omega)
  | (rcases h' with ⟨-, h'⟩ | ⟨-, h'⟩ <;> first | omega | (simp_all; done) | (simp_all; omega))
  | (rcases h' with (⟨-, h'⟩ | ⟨-, h'⟩) | ⟨-, h'⟩ <;> first | omega | (simp_all; done) | (simp_all; omega))
  | (rcases h' with ⟨-, h'⟩ | ⟨-, h'⟩ | ⟨-, h'⟩ <;> first | omega | (simp_all; done) | (simp_all; omega))
  | (obtain ⟨-, h'⟩ := h'; first | omega | (simp_all; done) | (simp_all; omega))
theorem Rd_sign {σ : St} {i : Int} {u : Int} {v : Int} {y y' : Int} {σ1 σ2 : St} (h : R_sign σ i u v y σ1) (h' : R_sign σ i u v y' σ2) : y = y' ∧ σ1 = σ2 := by
  unfold R_sign at h h'
  obtain ⟨rfl, k, a, b, ⟨ek, ck⟩, ⟨ea, ca⟩, ⟨eb, cb⟩, rfl⟩ := h
  obtain ⟨rfl, k9, a9, b9, ⟨ek9, ck9⟩, ⟨ea9, ca9⟩, ⟨eb9, cb9⟩, rfl⟩ := h'
  have qk : k9 = k := by omega
  subst qk
  have qa : a9 = a := by omega
  subst qa
  have qb : b9 = b := by omega
  subst qb
  exact ⟨rfl, rfl⟩
theorem Rx_sign {σ : St} {i : Int} {u : Int} {v : Int} {y : Int} {σ1 : St} {E : String} (h : R_sign σ i u v y σ1) (h' : X_sign σ i u v E) : False := by
  unfold R_sign at h
  obtain ⟨rfl, k, a, b, ⟨ek, ck⟩, ⟨ea, ca⟩, ⟨eb, cb⟩, h3⟩ := h
  subst ek
  subst ea
  subst eb
  simp only [X_sign, X3e, X2e, X2s, X3s, X1e, X1ea, X1a, X1aa, X1s, XPr, XSet, XNew, XAlg, XDi, inE, inA, Int.toNat_natCast] at h'
  first
  | (exfalso; omega)
  | (rcases h' with ⟨-, h'⟩ | ⟨-, h'⟩ <;> first | omega | (simp_all; done) | (simp_all; omega))
  | (rcases h' with (⟨-, h'⟩ | ⟨-, h'⟩) | ⟨-, h'⟩ <;> first | omega | (simp_all; done) | (simp_all; omega))
  | (rcases h' with ⟨-, h'⟩ | ⟨-, h'⟩ | ⟨-, h'⟩ <;> first | omega | (simp_all; done) | (simp_all; omega))
  | (obtain ⟨-, h'⟩ := h'; first | omega | (simp_all; done) | (simp_all; omega))
theorem Rd_breaks {σ : St} {i : Int} {u : Int} {y y' : Int} {σ1 σ2 : St} (h : R_breaks σ i u y σ1) (h' : R_breaks σ i u y' σ2) : y = y' ∧ σ1 = σ2 := by
  unfold R_breaks at h h'
  obtain ⟨rfl, k, a, ⟨ek, ck⟩, ⟨ea, ca⟩, rfl⟩ := h
  obtain ⟨rfl, k9, a9, ⟨ek9, ck9⟩, ⟨ea9, ca9⟩, rfl⟩ := h'
  have qk : k9 = k := by omega
  subst qk
  have qa : a9 = a := by omega
  subst qa
  exact ⟨rfl, rfl⟩
theorem Rx_breaks {σ : St} {i : Int} {u : Int} {y : Int} {σ1 : St} {E : String} (h : R_breaks σ i u y σ1) (h' : X_breaks σ i u E) : False := by
  unfold R_breaks at h
  obtain ⟨rfl, k, a, ⟨ek, ck⟩, ⟨ea, ca⟩, h2⟩ := h
  subst ek
  subst ea
  simp only [X_breaks, X3e, X2e, X2s, X3s, X1e, X1ea, X1a, X1aa, X1s, XPr, XSet, XNew, XAlg, XDi, inE, inA, Int.toNat_natCast] at h'
  first
  | (exfalso; omega)
  | (rcases h' with ⟨-, h'⟩ | ⟨-, h'⟩ <;> first | omega | (simp_all; done) | (simp_all; omega))
  | (rcases h' with (⟨-, h'⟩ | ⟨-, h'⟩) | ⟨-, h'⟩ <;> first | omega | (simp_all; done) | (simp_all; omega))
  | (rcases h' with ⟨-, h'⟩ | ⟨-, h'⟩ | ⟨-, h'⟩ <;> first | omega | (simp_all; done) | (simp_all; omega))
  | (obtain ⟨-, h'⟩ := h'; first | omega | (simp_all; done) | (simp_all; omega))
theorem Rd_lean {σ : St} {i : Int} {y y' : UInt64} {σ1 σ2 : St} (h : R_lean σ i y σ1) (h' : R_lean σ i y' σ2) : y = y' ∧ σ1 = σ2 := by
  unfold R_lean at h h'
  obtain ⟨rfl, a, ⟨ea, ca⟩, rfl⟩ := h
  obtain ⟨rfl, a9, ⟨ea9, ca9⟩, rfl⟩ := h'
  have qa : a9 = a := by omega
  subst qa
  exact ⟨rfl, rfl⟩
theorem Rx_lean {σ : St} {i : Int} {y : UInt64} {σ1 : St} {E : String} (h : R_lean σ i y σ1) (h' : X_lean σ i E) : False := by
  unfold R_lean at h
  obtain ⟨rfl, a, ⟨ea, ca⟩, h1⟩ := h
  subst ea
  simp only [X_lean, X3e, X2e, X2s, X3s, X1e, X1ea, X1a, X1aa, X1s, XPr, XSet, XNew, XAlg, XDi, inE, inA, Int.toNat_natCast] at h'
  first
  | (exfalso; omega)
  | (rcases h' with ⟨-, h'⟩ | ⟨-, h'⟩ <;> first | omega | (simp_all; done) | (simp_all; omega))
  | (rcases h' with (⟨-, h'⟩ | ⟨-, h'⟩) | ⟨-, h'⟩ <;> first | omega | (simp_all; done) | (simp_all; omega))
  | (rcases h' with ⟨-, h'⟩ | ⟨-, h'⟩ | ⟨-, h'⟩ <;> first | omega | (simp_all; done) | (simp_all; omega))
  | (obtain ⟨-, h'⟩ := h'; first | omega | (simp_all; done) | (simp_all; omega))
theorem Rd_many {σ : St} {w : Int} {y y' : Int} {σ1 σ2 : St} (h : R_many σ w y σ1) (h' : R_many σ w y' σ2) : y = y' ∧ σ1 = σ2 := by
  unfold R_many at h h'
  obtain ⟨rfl, t, ⟨et, ct⟩, rfl⟩ := h
  obtain ⟨rfl, t9, ⟨et9, ct9⟩, rfl⟩ := h'
  have qt : t9 = t := by omega
  subst qt
  exact ⟨rfl, rfl⟩
theorem Rx_many {σ : St} {w : Int} {y : Int} {σ1 : St} {E : String} (h : R_many σ w y σ1) (h' : X_many σ w E) : False := by
  unfold R_many at h
  obtain ⟨rfl, t, ⟨et, ct⟩, h1⟩ := h
  subst et
  simp only [X_many, X3e, X2e, X2s, X3s, X1e, X1ea, X1a, X1aa, X1s, XPr, XSet, XNew, XAlg, XDi, inE, inA, Int.toNat_natCast] at h'
  first
  | (exfalso; omega)
  | (rcases h' with ⟨-, h'⟩ | ⟨-, h'⟩ <;> first | omega | (simp_all; done) | (simp_all; omega))
  | (rcases h' with (⟨-, h'⟩ | ⟨-, h'⟩) | ⟨-, h'⟩ <;> first | omega | (simp_all; done) | (simp_all; omega))
  | (rcases h' with ⟨-, h'⟩ | ⟨-, h'⟩ | ⟨-, h'⟩ <;> first | omega | (simp_all; done) | (simp_all; omega))
  | (obtain ⟨-, h'⟩ := h'; first | omega | (simp_all; done) | (simp_all; omega))
theorem Rd_apart {σ : St} {i : Int} {j : Int} {y y' : Int} {σ1 σ2 : St} (h : R_apart σ i j y σ1) (h' : R_apart σ i j y' σ2) : y = y' ∧ σ1 = σ2 := by
  unfold R_apart at h h'
  obtain ⟨rfl, a, b, ⟨ea, ca⟩, ⟨eb, cb⟩, h2, rfl⟩ := h
  obtain ⟨rfl, a9, b9, ⟨ea9, ca9⟩, ⟨eb9, cb9⟩, h29, rfl⟩ := h'
  have qa : a9 = a := by omega
  subst qa
  have qb : b9 = b := by omega
  subst qb
  exact ⟨rfl, rfl⟩
theorem Rx_apart {σ : St} {i : Int} {j : Int} {y : Int} {σ1 : St} {E : String} (h : R_apart σ i j y σ1) (h' : X_apart σ i j E) : False := by
  unfold R_apart at h
  obtain ⟨rfl, a, b, ⟨ea, ca⟩, ⟨eb, cb⟩, h2, h3⟩ := h
  subst ea
  subst eb
  simp only [X_apart, X3e, X2e, X2s, X3s, X1e, X1ea, X1a, X1aa, X1s, XPr, XSet, XNew, XAlg, XDi, inE, inA, Int.toNat_natCast] at h'
  first
  | (exfalso; omega)
  | (rcases h' with ⟨-, h'⟩ | ⟨-, h'⟩ <;> first | omega | (simp_all; done) | (simp_all; omega))
  | (rcases h' with (⟨-, h'⟩ | ⟨-, h'⟩) | ⟨-, h'⟩ <;> first | omega | (simp_all; done) | (simp_all; omega))
  | (rcases h' with ⟨-, h'⟩ | ⟨-, h'⟩ | ⟨-, h'⟩ <;> first | omega | (simp_all; done) | (simp_all; omega))
  | (obtain ⟨-, h'⟩ := h'; first | omega | (simp_all; done) | (simp_all; omega))
theorem Rd_row {σ : St} {i : Int} {z : Int} {y y' : Int} {σ1 σ2 : St} (h : R_row σ i z y σ1) (h' : R_row σ i z y' σ2) : y = y' ∧ σ1 = σ2 := by
  unfold R_row at h h'
  obtain ⟨rfl, k, ⟨ek, ck⟩, h1, rfl⟩ := h
  obtain ⟨rfl, k9, ⟨ek9, ck9⟩, h19, rfl⟩ := h'
  have qk : k9 = k := by omega
  subst qk
  exact ⟨rfl, rfl⟩
theorem Rx_row {σ : St} {i : Int} {z : Int} {y : Int} {σ1 : St} {E : String} (h : R_row σ i z y σ1) (h' : X_row σ i z E) : False := by
  unfold R_row at h
  obtain ⟨rfl, k, ⟨ek, ck⟩, h1, h2⟩ := h
  subst ek
  simp only [X_row, X3e, X2e, X2s, X3s, X1e, X1ea, X1a, X1aa, X1s, XPr, XSet, XNew, XAlg, XDi, inE, inA, Int.toNat_natCast] at h'
  first
  | (exfalso; omega)
  | (rcases h' with ⟨-, h'⟩ | ⟨-, h'⟩ <;> first | omega | (simp_all; done) | (simp_all; omega))
  | (rcases h' with (⟨-, h'⟩ | ⟨-, h'⟩) | ⟨-, h'⟩ <;> first | omega | (simp_all; done) | (simp_all; omega))
  | (rcases h' with ⟨-, h'⟩ | ⟨-, h'⟩ | ⟨-, h'⟩ <;> first | omega | (simp_all; done) | (simp_all; omega))
  | (obtain ⟨-, h'⟩ := h'; first | omega | (simp_all; done) | (simp_all; omega))
theorem Rd_match {σ : St} {i : Int} {j : Int} {y y' : Int} {σ1 σ2 : St} (h : R_match σ i j y σ1) (h' : R_match σ i j y' σ2) : y = y' ∧ σ1 = σ2 := by
  unfold R_match at h h'
  obtain ⟨rfl, k, k2, ⟨ek, ck⟩, ⟨ek2, ck2⟩, rfl⟩ := h
  obtain ⟨rfl, k9, k29, ⟨ek9, ck9⟩, ⟨ek29, ck29⟩, rfl⟩ := h'
  have qk : k9 = k := by omega
  subst qk
  have qk2 : k29 = k2 := by omega
  subst qk2
  exact ⟨rfl, rfl⟩
theorem Rx_match {σ : St} {i : Int} {j : Int} {y : Int} {σ1 : St} {E : String} (h : R_match σ i j y σ1) (h' : X_match σ i j E) : False := by
  unfold R_match at h
  obtain ⟨rfl, k, k2, ⟨ek, ck⟩, ⟨ek2, ck2⟩, h2⟩ := h
  subst ek
  subst ek2
  simp only [X_match, X3e, X2e, X2s, X3s, X1e, X1ea, X1a, X1aa, X1s, XPr, XSet, XNew, XAlg, XDi, inE, inA, Int.toNat_natCast] at h'
  first
  | (exfalso; omega)
  | (rcases h' with ⟨-, h'⟩ | ⟨-, h'⟩ <;> first | omega | (simp_all; done) | (simp_all; omega))
  | (rcases h' with (⟨-, h'⟩ | ⟨-, h'⟩) | ⟨-, h'⟩ <;> first | omega | (simp_all; done) | (simp_all; omega))
  | (rcases h' with ⟨-, h'⟩ | ⟨-, h'⟩ | ⟨-, h'⟩ <;> first | omega | (simp_all; done) | (simp_all; omega))
  | (obtain ⟨-, h'⟩ := h'; first | omega | (simp_all; done) | (simp_all; omega))
theorem Rd_scaleOf {σ : St} {i : Int} {j : Int} {g : Int} {y y' : Int} {σ1 σ2 : St} (h : R_scaleOf σ i j g y σ1) (h' : R_scaleOf σ i j g y' σ2) : y = y' ∧ σ1 = σ2 := by
  unfold R_scaleOf at h h'
  obtain ⟨rfl, k, k2, ⟨ek, ck⟩, ⟨ek2, ck2⟩, rfl⟩ := h
  obtain ⟨rfl, k9, k29, ⟨ek9, ck9⟩, ⟨ek29, ck29⟩, rfl⟩ := h'
  have qk : k9 = k := by omega
  subst qk
  have qk2 : k29 = k2 := by omega
  subst qk2
  exact ⟨rfl, rfl⟩
theorem Rx_scaleOf {σ : St} {i : Int} {j : Int} {g : Int} {y : Int} {σ1 : St} {E : String} (h : R_scaleOf σ i j g y σ1) (h' : X_scaleOf σ i j g E) : False := by
  unfold R_scaleOf at h
  obtain ⟨rfl, k, k2, ⟨ek, ck⟩, ⟨ek2, ck2⟩, h2⟩ := h
  subst ek
  subst ek2
  simp only [X_scaleOf, X3e, X2e, X2s, X3s, X1e, X1ea, X1a, X1aa, X1s, XPr, XSet, XNew, XAlg, XDi, inE, inA, Int.toNat_natCast] at h'
  first
  | (exfalso; omega)
  | (rcases h' with ⟨-, h'⟩ | ⟨-, h'⟩ <;> first | omega | (simp_all; done) | (simp_all; omega))
  | (rcases h' with (⟨-, h'⟩ | ⟨-, h'⟩) | ⟨-, h'⟩ <;> first | omega | (simp_all; done) | (simp_all; omega))
  | (rcases h' with ⟨-, h'⟩ | ⟨-, h'⟩ | ⟨-, h'⟩ <;> first | omega | (simp_all; done) | (simp_all; omega))
  | (obtain ⟨-, h'⟩ := h'; first | omega | (simp_all; done) | (simp_all; omega))
theorem Rd_killer {σ : St} {i j : Int} {y y' : Int} {σ1 σ2 : St} (hp : pr357 (St_p σ)) (h : R_killer σ i j y σ1) (h' : R_killer σ i j y' σ2) : y = y' ∧ ∃ (a : Nat) (w w' : Nat → Int), σ1 = stEl σ a w ∧ σ2 = stEl σ a w' ∧ ∀ k, k < St_n σ (St_ea σ a) → w k = w' k := by
  unfold R_killer at h h'
  obtain ⟨a, b, c, w, ⟨ea, ca⟩, ⟨eb, cb⟩, h2, ⟨k1, k2, k3⟩, rfl, rfl⟩ := h
  obtain ⟨a9, b9, c9, w9, ⟨ea9, ca9⟩, ⟨eb9, cb9⟩, h29, ⟨k19, k29, k39⟩, rfl, rfl⟩ := h'
  have qa : a9 = a := by omega
  subst qa
  have qb : b9 = b := by omega
  subst qb
  have f1 := fun z => k29 c z ⟨w, k3.1, k3.2.1, k3.2.2.2⟩
  have f2 := fun z => k2 c9 z ⟨w9, k39.1, k39.2.1, k39.2.2.2⟩
  have qc : c9 = c := by
    rcases Nat.lt_trichotomy c c9 with z | z | z
    · exact (f1 z).elim
    · exact z.symm
    · exact (f2 z).elim
  subst qc
  exact ⟨rfl, _, w, w9, rfl, rfl, kerV_one hp k3 k39 k1 k2⟩
/-- the model's state but for what no row shows -/
theorem HM.congr {G : zG} {s0 : State} {μ : Ro → Nat} {σ : St} {th : Int} {H : Heap} {a : Nat} {w w' : Nat → Int} (h : HM G s0 μ (stEl σ a w) th H) (e : ∀ j, j < St_n σ (St_ea σ a) → w j = w' j) : HM G s0 μ (stEl σ a w') th H := by
  obtain ⟨⟨p1, p2, p3, p4, p5, p6⟩, h2, h3, h4, h5⟩ := h
  have hea : ∀ j, St_ea (stEl σ a w') j = St_ea (stEl σ a w) j := fun j => (stEl_ea σ a w' j).trans (stEl_ea σ a w j).symm
  have hev : ∀ j i, i < St_n σ (St_ea σ j) → St_ev (stEl σ a w) j i = St_ev (stEl σ a w') j i := fun j i hi => by
    rw [stEl_ev, stEl_ev]
    by_cases ej : j = a
    · subst ej; rw [if_pos rfl, if_pos rfl]; exact e i hi
    · rw [if_neg ej, if_neg ej]
  have hn : ∀ j, St_n (stEl σ a w') (St_ea (stEl σ a w') j) = St_n σ (St_ea σ j) := fun j => by rw [stEl_ea]; rfl
  refine ⟨⟨p1, p2, p3, p4, fun j hj => ?_, fun k hk => ?_⟩, h2, h3, h4, fun j hj => ?_⟩
  · obtain ⟨q1, q2⟩ := p5 j hj
    refine ⟨by rw [hea]; exact q1, fun i hi => ?_⟩
    rw [hn] at hi
    rw [← hev j i hi]
    refine q2 i ?_
    have := stEl_ea σ a w j
    rw [this]; exact hi
  · obtain ⟨q1, q2, q3⟩ := p6 k hk
    exact ⟨q1, fun z => by obtain ⟨j, b1, b2⟩ := q2 z; exact ⟨j, b1, by rw [hea]; exact b2⟩, q3⟩
  · obtain ⟨q1, q2⟩ := h5 j hj
    refine ⟨by rw [hea]; exact q1, ?_⟩
    rw [hea]
    refine zI_congr q2 (fun i hi => hev j i ?_)
    have := stEl_ea σ a w j
    rw [this] at hi; exact hi
/-- what both sides say is one -/
theorem z_agr {ex : List String} {X : String → Prop} {σ σ1 σ2 : St} {A B : Prop} {k1 : Int} {k2 : Nat}
    (hnd : ∀ a b : Nat, a < ex.length → b < ex.length → ex.getD a "" = ex.getD b "" → a = b)
    (hx1 : A → ∀ E, X E → False) (hx2 : B → ∀ E, X E → False) (hu : ∀ E E', X E → X E' → E = E')
    (h1 : (k1 = 0 ∧ A) ∨ (∃ j : Nat, k1 = ((j + 1 : Nat) : Int) ∧ σ1 = σ ∧ j < ex.length ∧ X (ex.getD j "")))
    (h2 : (k2 = 0 ∧ B) ∨ (k2 ≠ 0 ∧ σ2 = σ ∧ k2 ≤ ex.length ∧ X (ex.getD (k2 - 1) ""))) :
    k1 = (k2 : Int) ∧ k2 ≤ ex.length ∧ ((k2 = 0 ∧ A ∧ B) ∨ (k2 ≠ 0 ∧ σ1 = σ ∧ σ2 = σ)) := by
  rcases h1 with ⟨a1, a2⟩ | ⟨j, a1, a2, a3, a4⟩ <;> rcases h2 with ⟨b1, b2⟩ | ⟨b1, b2, b3, b4⟩
  · exact ⟨by omega, by omega, Or.inl ⟨b1, a2, b2⟩⟩
  · exact (hx1 a2 _ b4).elim
  · exact (hx2 b2 _ a4).elim
  · have e := hnd j (k2 - 1) a3 (by omega) (hu _ _ a4 b4)
    exact ⟨by omega, b3, Or.inr ⟨b1, a2, b2⟩⟩
theorem nd_1 {a : String} : ∀ x y : Nat, x < ([a] : List String).length → y < ([a] : List String).length → ([a] : List String).getD x "" = ([a] : List String).getD y "" → x = y := by
  intro x y hx hy _
  have h1 : x < 1 := hx
  have h2 : y < 1 := hy
  omega
theorem nd_2 {a b : String} (h : a ≠ b) : ∀ x y : Nat, x < ([a, b] : List String).length → y < ([a, b] : List String).length → ([a, b] : List String).getD x "" = ([a, b] : List String).getD y "" → x = y := by
  intro x y hx hy e
  have h1 : x < 2 := hx
  have h2 : y < 2 := hy
  rcases (show x = 0 ∨ x = 1 by omega) with rfl | rfl <;> rcases (show y = 0 ∨ y = 1 by omega) with rfl | rfl <;> first | rfl | exact absurd e h | exact absurd e.symm h
theorem nd_3 {a b c : String} (h : a ≠ b) (g : a ≠ c) (f : b ≠ c) : ∀ x y : Nat, x < ([a, b, c] : List String).length → y < ([a, b, c] : List String).length → ([a, b, c] : List String).getD x "" = ([a, b, c] : List String).getD y "" → x = y := by
  intro x y hx hy e
  have h1 : x < 3 := hx
  have h2 : y < 3 := hy
  rcases (show x = 0 ∨ x = 1 ∨ x = 2 by omega) with rfl | rfl | rfl <;> rcases (show y = 0 ∨ y = 1 ∨ y = 2 by omega) with rfl | rfl | rfl <;> first | rfl | exact absurd e h | exact absurd e.symm h | exact absurd e g | exact absurd e.symm g | exact absurd e f | exact absurd e.symm f
