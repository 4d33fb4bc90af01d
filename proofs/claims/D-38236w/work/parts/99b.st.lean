/-! THE START: what the Statement gives of it -/
set_option maxRecDepth 100000
theorem st_ex {args : Array Value} {s : State} {t : Term} {nm : String} (h : (Cond.exactly t nm).before args s = true) : ∃ a : Nat, t.eval args s none [] s = some (.ref a) := by
  obtain ⟨a2, c, cA, kA, q1, -⟩ := Cond.exactly_spec (args := args) (first := s) (o := none) (s := s) (idx := []) (t := t) (cls := nm) h
  exact ⟨a2, q1⟩
theorem st_all {args : Array Value} {s : State} {st : Term} {E B F : Cond} {v : Value} (hlen : (Term.length st).eval args s none [] s = some v) (h : (Cond.all st (.and (.and E B) F)).before args s = true) : (Cond.all st (.and E F)).before args s = true := by
  obtain ⟨b, cell, ht, hat, -⟩ := Term.length_spec hlen
  have h' := Cond.all_elim ht hat (by simpa [Cond.before, Cond.holds] using h)
  have h2 : (Cond.all st (.and E F)).value args s none s [] = some true := Cond.all_intro ht hat (fun i hi => by
    obtain ⟨h1, hF⟩ := va_andE (h' i hi)
    obtain ⟨hE, -⟩ := va_andE h1
    simp [Cond.value, hE, hF])
  simpa [Cond.before, Cond.holds] using h2
theorem st_ne {args : Array Value} {s : State} {t u : Term} {a b : Nat} (h : (Cond.not (Cond.eq t u)).before args s = true) (ht : t.eval args s none [] s = some (.ref a)) (hu : u.eval args s none [] s = some (.ref b)) : a ≠ b := by
  intro e
  subst e
  simp [Cond.before, Cond.holds, Cond.value, ht, hu] at h
def st_fl : List Cond := flatC (Jvm.Cond.and given_1 narrow_1)
theorem st_ones_p : ∀ j : Nat, j < 100 → st_fl[j + 26]? = some (Cond.eq (.elem (Term.static "java/lang/Integer" "DigitOnes" "[B") (.int (Int32.ofNat j))) (.int (Int32.ofNat (48 + j % 10)))) := by decide +kernel
theorem st_ones (j : Nat) (hj : j < 100) : (Cond.eq (.elem (Term.static "java/lang/Integer" "DigitOnes" "[B") (.int (Int32.ofNat j))) (.int (Int32.ofNat (48 + j % 10)))) ∈ st_fl := List.mem_of_getElem? (st_ones_p j hj)
theorem st_tens_p : ∀ j : Nat, j < 100 → st_fl[j + 130]? = some (Cond.eq (.elem (Term.static "java/lang/Integer" "DigitTens" "[B") (.int (Int32.ofNat j))) (.int (Int32.ofNat (48 + j / 10)))) := by decide +kernel
theorem st_tens (j : Nat) (hj : j < 100) : (Cond.eq (.elem (Term.static "java/lang/Integer" "DigitTens" "[B") (.int (Int32.ofNat j))) (.int (Int32.ofNat (48 + j / 10)))) ∈ st_fl := List.mem_of_getElem? (st_tens_p j hj)
theorem st_ef {G : zG} {ad : Nat → Nat} {A : Nat → Prop} {s : State} (h : ∀ k, k < 256 → G.2 (1000 + k) = ad k) (he : va_Ef 256 "java/lang/Integer" "value" "I" (fun k => .int (vb_c k)) ad A s s.heap) : va_Ef 256 "java/lang/Integer" "value" "I" (fun k => .int (vb_c k)) (fun k => G.2 (1000 + k)) A s s.heap := fun k hk => by
  have h2 := he k hk
  simp only [h k hk]
  exact h2
theorem st_vk {len : List Nat} {byt : List (List Int32)} {f g f' g' : Nat → Nat} {A : Nat → Prop} {s : State} (h1 : ∀ i, i < 2 → f' i = f i) (h2 : ∀ i, i < 2 → g' i = g i) (h : vk_S 2 len byt f g A s s.heap) : vk_S 2 len byt f' g' A s s.heap :=
  ⟨fun i hi => by rw [h1 i hi, h2 i hi]; exact h.1 i hi, fun i j hi hj e => h.2 i j hi hj (by rw [← h1 i hi, ← h1 j hj]; exact e)⟩
theorem st_zE {l : Launch} {s : State} (hflags : l.flags = flags0) {b : Nat} (hts : ∀ w ∈ lw_tbl, w.before #[Value.ref b] s = true) (hgv : (Jvm.Cond.and given_1 narrow_1).before #[Value.ref b] s = true) : ∃ G : zG, zE l s G ∧ zNc s := by
  have hs : ∀ w ∈ st_fl, w.before #[Value.ref b] s = true := flat_of_before _ hgv
  have hA : ∀ a : Nat, a < s.heap.size → ¬ zN s a := fun a ha z => by have z : s.heap.size ≤ a := z; omega
  obtain ⟨c0, i0, k0⟩ := u_known (C := RX1) (T := TX1) (N := 6) (ws := lw_all) (fun w hw => hts w (lw_all_tbl hw)) in_X1 (hts _ (lw_all_tbl q103))
  obtain ⟨c1, i1, k1⟩ := u_known (C := RX2) (T := TX2) (N := 1) (ws := lw_all) (fun w hw => hts w (lw_all_tbl hw)) in_X2 (hts _ (lw_all_tbl q140))
  obtain ⟨c2, i2, k2⟩ := u_known (C := RX3) (T := TX3) (N := 5) (ws := lw_all) (fun w hw => hts w (lw_all_tbl hw)) in_X3 (hts _ (lw_all_tbl q1488))
  obtain ⟨c3, i3, k3⟩ := u_known (C := RX4) (T := TX4) (N := 3) (ws := lw_all) (fun w hw => hts w (lw_all_tbl hw)) in_X4 (hts _ (lw_all_tbl q881))
  obtain ⟨c4, i4, k4⟩ := u_known (C := RX5) (T := TX5) (N := 5) (ws := lw_all) (fun w hw => hts w (lw_all_tbl hw)) in_X5 (hts _ (lw_all_tbl q413))
  obtain ⟨c5, i5, k5⟩ := u_known (C := RX6) (T := TX6) (N := 6) (ws := lw_all) (fun w hw => hts w (lw_all_tbl hw)) in_X6 (hts _ (lw_all_tbl q1540))
  obtain ⟨c6, i6, k6⟩ := u_known (C := RX7) (T := TX7) (N := 3) (ws := lw_all) (fun w hw => hts w (lw_all_tbl hw)) in_X7 (hts _ (lw_all_tbl q316))
  obtain ⟨c7, i7, k7⟩ := u_known (C := RX8) (T := TX8) (N := 2) (ws := lw_all) (fun w hw => hts w (lw_all_tbl hw)) in_X8 (hts _ (lw_all_tbl q1632))
  obtain ⟨c8, i8, k8⟩ := u_known (C := RJ2) (T := TJ2) (N := 3) (ws := lw_all) (fun w hw => hts w (lw_all_tbl hw)) in_J2 (hts _ (lw_all_tbl q111))
  obtain ⟨c9, i9, k9⟩ := u_known (C := RJ17) (T := TJ17) (N := 4) (ws := lw_all) (fun w hw => hts w (lw_all_tbl hw)) in_J17 (hts _ (lw_all_tbl q179))
  obtain ⟨c10, i10, k10⟩ := u_known (C := RJ20) (T := TJ20) (N := 1) (ws := lw_all) (fun w hw => hts w (lw_all_tbl hw)) in_J20 (hts _ (lw_all_tbl q1211))
  obtain ⟨c11, i11, k11⟩ := u_known (C := RJ24) (T := TJ24) (N := 4) (ws := lw_all) (fun w hw => hts w (lw_all_tbl hw)) in_J24 (hts _ (lw_all_tbl q550))
  obtain ⟨c12, i12, k12⟩ := u_known (C := RJ14) (T := TJ14) (N := 4) (ws := lw_all) (fun w hw => hts w (lw_all_tbl hw)) in_J14 (hts _ (lw_all_tbl q721))
  obtain ⟨a0, ka0, cm0, fa0, ha0, hd0⟩ := Cond.arrayClass_spec (hts _ (lw_all_tbl q333))
  obtain ⟨a1, ka1, cm1, fa1, ha1, hd1⟩ := Cond.arrayClass_spec (hts _ (lw_all_tbl q579))
  obtain ⟨a2, ka2, cm2, fa2, ha2, hd2⟩ := Cond.arrayClass_spec (hts _ (lw_all_tbl q580))
  obtain ⟨cm3, a3, ka3, fo3, -, ha3, hd3, fa3⟩ := Cond.arrayOver_spec (hts _ q1026)
  obtain ⟨cm4, a4, ka4, fo4, ha4, hd4, fa4⟩ := Cond.arrayOver_specA (hts _ q536)
  have xD := (hs (Cond.exactly (Term.static "Versorhall$Kind" "DOUBLED" "LVersorhall$Kind;") "Versorhall$Kind$1") (by decide +kernel))
  obtain ⟨gD, eD⟩ := st_ex xD
  have oD := va_eqt (hs (Cond.eq (.field (Term.static "Versorhall$Kind" "DOUBLED" "LVersorhall$Kind;") "java/lang/Enum" "ordinal" "I") (.int 0)) (by decide +kernel))
  have xB := (hs (Cond.exactly (Term.static "Versorhall$Kind" "BLADES" "LVersorhall$Kind;") "Versorhall$Kind$2") (by decide +kernel))
  obtain ⟨gB, eB⟩ := st_ex xB
  have oB := va_eqt (hs (Cond.eq (.field (Term.static "Versorhall$Kind" "BLADES" "LVersorhall$Kind;") "java/lang/Enum" "ordinal" "I") (.int 1)) (by decide +kernel))
  have hDB : gD ≠ gB := fun e => st_ne (hs (Cond.not (Cond.eq (Term.static "Versorhall$Kind" "BLADES" "LVersorhall$Kind;") (Term.static "Versorhall$Kind" "DOUBLED" "LVersorhall$Kind;"))) (by decide +kernel)) eB eD e.symm
  obtain ⟨gE, eE, tE⟩ := va_Tof (A := zN s) (f := fun _ => .null) (N := 0) (by decide) (hs (Cond.arrayOf (Term.static "java/util/ArrayList" "DEFAULTCAPACITY_EMPTY_ELEMENTDATA" "[Ljava/lang/Object;") (.object "java/lang/Object")) (by decide +kernel)) (va_eqt (hs (Cond.eq (.length (Term.static "java/util/ArrayList" "DEFAULTCAPACITY_EMPTY_ELEMENTDATA" "[Ljava/lang/Object;")) (.int 0)) (by decide +kernel))) (fun j hj => absurd hj (Nat.not_lt_zero j)) hA
  have xO := (hs (Cond.exactly (Term.static "java/util/Optional" "EMPTY" "Ljava/util/Optional;") "java/util/Optional") (by decide +kernel))
  obtain ⟨gO, eO⟩ := st_ex xO
  have oO := va_eqv (hs (Cond.eq (.field (Term.static "java/util/Optional" "EMPTY" "Ljava/util/Optional;") "java/util/Optional" "value" "Ljava/lang/Object;") .null) (by decide +kernel)) (v := .null) rfl
  have hcl := va_eqt (hs (Cond.eq (.length (Term.static "java/lang/Integer$IntegerCache" "cache" "[Ljava/lang/Integer;")) (.int 256)) (by decide +kernel))
  obtain ⟨ad, hvb, had⟩ := vb_Cof (A := zN s) (st := (Term.static "java/lang/Integer$IntegerCache" "cache" "[Ljava/lang/Integer;")) rfl hcl (st_all hcl (hs (Cond.all (Term.static "java/lang/Integer$IntegerCache" "cache" "[Ljava/lang/Integer;") (.and (.and (Cond.exactly (.elem (Term.static "java/lang/Integer$IntegerCache" "cache" "[Ljava/lang/Integer;") (.index 0)) "java/lang/Integer") (Cond.untouched (.elem (Term.static "java/lang/Integer$IntegerCache" "cache" "[Ljava/lang/Integer;") (.index 0)))) (Cond.eq (.field (.elem (Term.static "java/lang/Integer$IntegerCache" "cache" "[Ljava/lang/Integer;") (.index 0)) "java/lang/Integer" "value" "I") (.sub (.index 0) (.int 128))))) (by decide +kernel))) hA
  obtain ⟨gC, eC, tC⟩ := va_Tof (A := zN s) (f := fun k => .ref (ad k)) (N := 256) (by decide) (hs (Cond.arrayOf (Term.static "java/lang/Integer$IntegerCache" "cache" "[Ljava/lang/Integer;") (.object "java/lang/Integer")) (by decide +kernel)) hcl had hA
  obtain ⟨g1, e1, t1⟩ := va_Tof (A := zN s) (f := fun k => .int (iI ((48 + k % 10 : Nat) : Int))) (N := 100) (by decide) (hs (Cond.arrayOf (Term.static "java/lang/Integer" "DigitOnes" "[B") .byte) (by decide +kernel)) (va_eqt (hs (Cond.eq (.length (Term.static "java/lang/Integer" "DigitOnes" "[B")) (.int 100)) (by decide +kernel))) (fun j hj => by rw [iI_nat]; exact va_eqt (hs _ (st_ones j hj))) hA
  obtain ⟨g2, e2, t2⟩ := va_Tof (A := zN s) (f := fun k => .int (iI ((48 + k / 10 : Nat) : Int))) (N := 100) (by decide) (hs (Cond.arrayOf (Term.static "java/lang/Integer" "DigitTens" "[B") .byte) (by decide +kernel)) (va_eqt (hs (Cond.eq (.length (Term.static "java/lang/Integer" "DigitTens" "[B")) (.int 100)) (by decide +kernel))) (fun j hj => by rw [iI_nat]; exact va_eqt (hs _ (st_tens j hj))) hA
  obtain ⟨sK, sV, hvS, heS⟩ := vk_Sof (A := zN s) (N := 2) (tm := fun i => if i = 0 then (Term.string "Versorhall$Element" 145) else (Term.string "VersorhallModel" 211)) (len := [1, 0]) (byt := [[48], []]) (fun i hi => by
    rcases (show i = 0 ∨ i = 1 by omega) with rfl | rfl <;> decide) (fun i hi => by
    rcases (show i = 0 ∨ i = 1 by omega) with rfl | rfl
    · exact (hs (Cond.exactly (Term.string "Versorhall$Element" 145) "java/lang/String") (by decide +kernel))
    · exact (hs (Cond.exactly (Term.string "VersorhallModel" 211) "java/lang/String") (by decide +kernel))) (fun i hi => by
    rcases (show i = 0 ∨ i = 1 by omega) with rfl | rfl
    · exact (hs (Cond.eq (.field (Term.string "Versorhall$Element" 145) "java/lang/String" "coder" "B") (.int 0)) (by decide +kernel))
    · exact (hs (Cond.eq (.field (Term.string "VersorhallModel" 211) "java/lang/String" "coder" "B") (.int 0)) (by decide +kernel))) (fun i hi => by
    rcases (show i = 0 ∨ i = 1 by omega) with rfl | rfl
    · exact (hs (Cond.arrayOf (.field (Term.string "Versorhall$Element" 145) "java/lang/String" "value" "[B") .byte) (by decide +kernel))
    · exact (hs (Cond.arrayOf (.field (Term.string "VersorhallModel" 211) "java/lang/String" "value" "[B") .byte) (by decide +kernel))) (fun i hi => by
    rcases (show i = 0 ∨ i = 1 by omega) with rfl | rfl
    · exact (hs (Cond.eq (.length (.field (Term.string "Versorhall$Element" 145) "java/lang/String" "value" "[B")) (.int 1)) (by decide +kernel))
    · exact (hs (Cond.eq (.length (.field (Term.string "VersorhallModel" 211) "java/lang/String" "value" "[B")) (.int 0)) (by decide +kernel))) (fun i hi j hj => by
    rcases (show i = 0 ∨ i = 1 by omega) with rfl | rfl
    · have hj : j < 1 := hj
      have e : j = 0 := by omega
      subst e
      exact (hs (Cond.eq (.elem (.field (Term.string "Versorhall$Element" 145) "java/lang/String" "value" "[B") (.int 0)) (.int 48)) (by decide +kernel))
    · exact absurd hj (Nat.not_lt_zero j)) (fun i j hi hj hij => by
    rcases (show i = 0 ∨ i = 1 by omega) with rfl | rfl <;> rcases (show j = 0 ∨ j = 1 by omega) with rfl | rfl
    · exact absurd rfl hij
    · exact Or.inl (hs (Cond.not (Cond.eq (Term.string "Versorhall$Element" 145) (Term.string "VersorhallModel" 211))) (by decide +kernel))
    · exact Or.inr (hs (Cond.not (Cond.eq (Term.string "Versorhall$Element" 145) (Term.string "VersorhallModel" 211))) (by decide +kernel))
    · exact absurd rfl hij) hA
  have es0 : (Term.string "Versorhall$Element" 145).eval #[Value.ref b] s none [] s = some (.ref (sK 0)) := heS 0 (by decide)
  have es1 : (Term.string "VersorhallModel" 211).eval #[Value.ref b] s none [] s = some (.ref (sK 1)) := heS 1 (by decide)
  have es2 : (Term.string "VersorhallModel" 205).eval #[Value.ref b] s none [] s = some (.ref (sK 0)) := va_eqR (hs (Cond.eq (Term.string "Versorhall$Element" 145) (Term.string "VersorhallModel" 205)) (by decide +kernel)) es0
  obtain ⟨G, hG⟩ : ∃ G : zG, G = (((fun k => if k = 0 then c0 else if k = 1 then c1 else if k = 2 then c2 else if k = 3 then c3 else if k = 4 then c4 else if k = 5 then c5 else if k = 6 then c6 else if k = 7 then c7 else if k = 8 then c8 else if k = 9 then c9 else if k = 10 then c10 else if k = 11 then c11 else if k = 12 then c12 else c0), (fun k => if k = 0 then i0 else if k = 1 then i1 else if k = 2 then i2 else if k = 3 then i3 else if k = 4 then i4 else if k = 5 then i5 else if k = 6 then i6 else if k = 7 then i7 else if k = 8 then i8 else if k = 9 then i9 else if k = 10 then i10 else if k = 11 then i11 else if k = 12 then i12 else i0)), (fun k => if k = 0 then a0 else if k = 1 then a1 else if k = 2 then a2 else if k = 3 then a3 else if k = 4 then a4 else if k = 10 then gD else if k = 11 then gB else if k = 12 then gE else if k = 13 then gO else if k = 14 then gC else if k = 15 then g1 else if k = 16 then g2 else if k = 17 then sK 0 else if k = 18 then sK 1 else if k = 20 then sV 0 else if k = 21 then sV 1 else ad (k - 1000))) := ⟨_, rfl⟩
  have G0 : G.2 0 = a0 := by rw [hG]; rfl
  have G1 : G.2 1 = a1 := by rw [hG]; rfl
  have G2 : G.2 2 = a2 := by rw [hG]; rfl
  have G3 : G.2 3 = a3 := by rw [hG]; rfl
  have G4 : G.2 4 = a4 := by rw [hG]; rfl
  have G10 : G.2 10 = gD := by rw [hG]; rfl
  have G11 : G.2 11 = gB := by rw [hG]; rfl
  have G12 : G.2 12 = gE := by rw [hG]; rfl
  have G13 : G.2 13 = gO := by rw [hG]; rfl
  have G14 : G.2 14 = gC := by rw [hG]; rfl
  have G15 : G.2 15 = g1 := by rw [hG]; rfl
  have G16 : G.2 16 = g2 := by rw [hG]; rfl
  have G17 : G.2 17 = sK 0 := by rw [hG]; rfl
  have G18 : G.2 18 = sK 1 := by rw [hG]; rfl
  have GC : ∀ k, k < 256 → G.2 (1000 + k) = ad k := fun k hk => by
    rw [hG]
    show (if 1000 + k = 0 then _ else _) = _
    rw [if_neg (by omega), if_neg (by omega), if_neg (by omega), if_neg (by omega), if_neg (by omega), if_neg (by omega), if_neg (by omega), if_neg (by omega), if_neg (by omega), if_neg (by omega), if_neg (by omega), if_neg (by omega), if_neg (by omega), if_neg (by omega), if_neg (by omega), if_neg (by omega), Nat.add_sub_cancel_left]
  have hK : va_K G.1 zCl (zTy G) s := by
    refine ⟨fun c q hq => ?_, fun k q hq => ?_⟩
    · rw [hG]
      have hc : c < 13 := (List.getElem?_eq_some_iff.mp hq).1
      rcases (show c = 0 ∨ c = 1 ∨ c = 2 ∨ c = 3 ∨ c = 4 ∨ c = 5 ∨ c = 6 ∨ c = 7 ∨ c = 8 ∨ c = 9 ∨ c = 10 ∨ c = 11 ∨ c = 12 from by omega) with rfl | rfl | rfl | rfl | rfl | rfl | rfl | rfl | rfl | rfl | rfl | rfl | rfl
      · cases hq; exact k0
      · cases hq; exact k1
      · cases hq; exact k2
      · cases hq; exact k3
      · cases hq; exact k4
      · cases hq; exact k5
      · cases hq; exact k6
      · cases hq; exact k7
      · cases hq; exact k8
      · cases hq; exact k9
      · cases hq; exact k10
      · cases hq; exact k11
      · cases hq; exact k12
    · have hk : k < 5 := (List.getElem?_eq_some_iff.mp hq).1
      rcases (show k = 0 ∨ k = 1 ∨ k = 2 ∨ k = 3 ∨ k = 4 from by omega) with rfl | rfl | rfl | rfl | rfl
      · cases hq; rw [show G.2 0 = a0 from G0]; exact ⟨fun N z => ⟨(fun k h => by cases h), ka0, ha0, cm0, hd0⟩, fa0⟩
      · cases hq; rw [show G.2 1 = a1 from G1]; exact ⟨fun N z => ⟨(fun k h => by cases h), ka1, ha1, cm1, hd1⟩, fa1⟩
      · cases hq; rw [show G.2 2 = a2 from G2]; exact ⟨fun N z => ⟨(fun k h => by cases h), ka2, ha2, cm2, hd2⟩, fa2⟩
      · cases hq; rw [show G.2 3 = a3 from G3]; exact ⟨fun N z => ⟨(fun k h => by cases h), ka3, ha3, cm3, hd3⟩, ka3, cm3, ha3, hd3, fo3, fa3⟩
      · cases hq; rw [show G.2 4 = a4 from G4]; exact ⟨fun N z => ⟨(fun k h => by cases h), ka4, ha4, cm4, hd4⟩, fa4⟩
  have hSt : zSt s G := by
    unfold zSt
    rw [G10, G11, G12, G13, G14, G15, G16, G17, G18]
    refine ⟨⟨va_Zof (hts _ q946) (hts _ (lw_all_tbl q76)) eD hA, va_Zof (hts _ q439) (hts _ (lw_all_tbl q76)) eB hA, va_Oof xD eD hA, va_Oof xB eB hA, vk_OFof eD oD hA, vk_OFof eB oB hA, hDB⟩, ?_⟩
    refine ⟨⟨va_Zof (hts _ q123) (hts _ (lw_all_tbl q65)) eE hA, tE⟩, ?_⟩
    refine ⟨⟨va_Zof (hts _ q1227) (hts _ (lw_all_tbl q94)) eO hA, va_Oof xO eO hA, vk_OFof eO oO hA⟩, ?_⟩
    refine ⟨⟨va_Zof (hts _ q1090) (hts _ (lw_all_tbl q91)) (va_eqi (hs (Cond.eq (.static "java/lang/Integer$IntegerCache" "high" "I") (.int 127)) (by decide +kernel))) hA, va_Zof (hts _ q1092) (hts _ (lw_all_tbl q91)) eC hA, ?_, ?_⟩, ?_⟩
    · obtain ⟨cell, h1, h2, h3, h4, h5, h6, h7⟩ := tC
      exact ⟨cell, h1, h2, h3, h4, h5, fun j hj => by show cell.slots[j]? = some (.ref (G.2 (1000 + j))); rw [GC j hj]; exact h6 j hj, h7⟩
    · exact ⟨fun k hk => by show va_O "java/lang/Integer" (G.2 (1000 + k)) (zN s) s s.heap; rw [GC k hk]; exact hvb.1 k hk, st_ef GC hvb.2⟩
    refine ⟨va_Zof (hts _ q494) (hts _ (lw_all_tbl q85)) (va_eqi (hs (Cond.eq (.static "java/lang/String" "COMPACT_STRINGS" "Z") (.int 1)) (by decide +kernel))) hA, ?_⟩
    refine ⟨⟨va_Zof (hts _ q695) (hts _ (lw_all_tbl q90)) e1 hA, t1, va_Zof (hts _ q697) (hts _ (lw_all_tbl q90)) e2 hA, t2⟩, ?_⟩
    refine ⟨⟨vk_R.of (hts _ q715) es0, vk_R.of (hts _ q1840) es2, vk_R.of (hts _ q1830) es1, ?_⟩, ?_⟩
    · refine st_vk (fun i hi => ?_) (fun i hi => ?_) hvS
      · rcases (show i = 0 ∨ i = 1 by omega) with rfl | rfl <;> rw [hG] <;> rfl
      · rcases (show i = 0 ∨ i = 1 by omega) with rfl | rfl <;> rw [hG] <;> rfl
    exact ⟨vx_Zqof (hts _ q772) (hts _ (lw_all_tbl q69)) (hs (Cond.isRef (.static "java/lang/Throwable" "UNASSIGNED_STACK" "[Ljava/lang/StackTraceElement;")) (by decide +kernel)) hA, vx_Zqof (hts _ q774) (hts _ (lw_all_tbl q69)) (hs (Cond.isRef (.static "java/lang/Throwable" "SUPPRESSED_SENTINEL" "Ljava/util/List;")) (by decide +kernel)) hA⟩
  refine ⟨G, ⟨⟨_, hts⟩, hK, by unfold Launch.stackTraces; rw [hflags]; decide +kernel, hSt, (by have h := hs (Cond.landsInDefault "Versorhall$Element" ⟨"Versorhall$Element", "quarter", "(I)F"⟩ ⟨"Versorhall$Weighed", "quarter", "(I)F"⟩) (by decide +kernel); exact h), va_tabs rfl rfl (hs _ (by decide +kernel)), va_tabs rfl rfl (hs _ (by decide +kernel))⟩, va_Nc.of (hs _ (by decide +kernel)), va_Nc.of (hs _ (by decide +kernel)), va_Nc.of (hs _ (by decide +kernel))⟩
