/-! FLOATS by their values -/
abbrev fD (x : UInt32) : FP.Core.Datum := FP.Core.decode FP.Core.b32 x.toNat
theorem fE_eq (n : Nat) : FP.Core.fieldE FP.Core.b32 n = n / 8388608 % 256 := by
  unfold FP.Core.fieldE
  rw [b32_tails, b32_exps]
theorem fT_eq (n : Nat) : FP.Core.fieldT FP.Core.b32 n = n % 8388608 := by
  unfold FP.Core.fieldT
  rw [b32_tails]
theorem fS_eq (n : Nat) : FP.Core.fieldS FP.Core.b32 n = (n / 8388608 / 256 % 2 == 1) := by
  unfold FP.Core.fieldS
  rw [b32_tails, b32_exps]
theorem dec_eq (n : Nat) : FP.Core.decode FP.Core.b32 n = if n / 8388608 % 256 = 255 then (if n % 8388608 = 0 then .inf (n / 8388608 / 256 % 2 == 1) else .nan) else if n / 8388608 % 256 = 0 then .fin (n / 8388608 / 256 % 2 == 1) (n % 8388608) (-149) else .fin (n / 8388608 / 256 % 2 == 1) (8388608 + n % 8388608) (-149 + (((n / 8388608 % 256 : Nat) : Int) - 1)) := by
  unfold FP.Core.decode
  rw [fE_eq, fT_eq, fS_eq, b32_qmin, b32_tails, b32_exps]
theorem dec_fit {n : Nat} {s : Bool} {c : Nat} {q : Int} (h : FP.Core.decode FP.Core.b32 n = .fin s c q) : fFit c q ∧ n % 2147483648 < 2139095040 := by
  rw [dec_eq] at h
  split at h
  · split at h <;> cases h
  · split at h
    · cases h
      exact ⟨⟨by omega, by omega, by omega, Or.inl rfl⟩, by omega⟩
    · cases h
      exact ⟨⟨by omega, by omega, by omega, Or.inr (by omega)⟩, by omega⟩
theorem fD_n32 {x : UInt32} {s : Bool} {c : Nat} {q : Int} (h : fD x = .fin s c q) : vf_n32 x := by
  have h1 := (dec_fit h).2
  unfold vf_n32
  rw [UInt32.le_iff_toNat_le, UInt32.toNat_and]
  have e : x.toNat &&& (0x7fffffff : UInt32).toNat = x.toNat % 2 ^ 31 := Nat.and_two_pow_sub_one_eq_mod x.toNat 31
  rw [e]
  have : (0x7f800000 : UInt32).toNat = 2139095040 := rfl
  omega
theorem enc_dec {s : Bool} {c : Nat} {q : Int} (h : fFit c q) : FP.Core.decode FP.Core.b32 (FP.Core.encode FP.Core.b32 (.fin s c q)) = .fin s c q ∧ FP.Core.encode FP.Core.b32 (.fin s c q) < 2 ^ 32 := by
  obtain ⟨h1, h2, h3, h4⟩ := h
  have key : ∀ E T : Nat, E < 256 → T < 8388608 → (s.toNat * 256 + E) * 8388608 + T < 2 ^ 32 ∧ ((s.toNat * 256 + E) * 8388608 + T) / 8388608 % 256 = E ∧ ((s.toNat * 256 + E) * 8388608 + T) % 8388608 = T ∧ (((s.toNat * 256 + E) * 8388608 + T) / 8388608 / 256 % 2 == 1) = s := by
    intro E T hE hT
    have hs : s.toNat ≤ 1 := by cases s <;> decide
    refine ⟨by omega, by omega, by omega, ?_⟩
    have e : ((s.toNat * 256 + E) * 8388608 + T) / 8388608 / 256 % 2 = s.toNat := by omega
    rw [e]
    cases s <;> rfl
  have he : FP.Core.encode FP.Core.b32 (.fin s c q) = if c < FP.Core.b32.tails then FP.Core.assemble FP.Core.b32 s 0 c else FP.Core.assemble FP.Core.b32 s ((q - FP.Core.b32.qmin).toNat + 1) (c - FP.Core.b32.tails) := rfl
  rw [he]
  unfold FP.Core.assemble
  rw [b32_tails, b32_exps, b32_qmin]
  by_cases hc : c < 2 ^ 23
  · rw [if_pos hc]
    have hq : q = -149 := by rcases h4 with h | h <;> omega
    obtain ⟨k1, k2, k3, k4⟩ := key 0 c (by decide) (by omega)
    refine ⟨?_, k1⟩
    rw [dec_eq, k2, k3, k4, if_neg (by decide), if_pos rfl, hq]
  · rw [if_neg hc]
    obtain ⟨k1, k2, k3, k4⟩ := key ((q - -149).toNat + 1) (c - 2 ^ 23) (by omega) (by omega)
    refine ⟨?_, k1⟩
    have e1 : 8388608 + (c - 2 ^ 23) = c := by omega
    have e2 : (-149 : Int) + ((((q - -149).toNat + 1 : Nat) : Int) - 1) = q := by omega
    rw [dec_eq, k2, k3, k4, if_neg (by omega), if_neg (by omega), e1, e2]
theorem fD_of {d : FP.Core.Datum} {s : Bool} {c : Nat} {q : Int} (hd : d = .fin s c q) (h : fFit c q) : fD (UInt32.ofNat (FP.Core.encode FP.Core.b32 d)) = .fin s c q := by
  subst hd
  obtain ⟨h1, h2⟩ := enc_dec (s := s) h
  unfold fD
  rw [UInt32.toNat_ofNat', Nat.mod_eq_of_lt h2]
  exact h1
/-- a float's value in units of 2^-400 -/
def zI (s : Bool) (c : Nat) (q : Int) : Int := FP.Core.signed s (fZ c q)
theorem sgn_mul (s : Bool) (a b : Nat) : FP.Core.signed s (a * b) = FP.Core.signed s a * (b : Int) := by
  cases s
  · simp [FP.Core.signed]
  · simp only [FP.Core.signed, if_true, Int.natCast_mul, Int.neg_mul]
theorem sgn_abs (s : Bool) (a : Nat) : (FP.Core.signed s a).natAbs = a := by cases s <;> simp [FP.Core.signed]
theorem zI_units {s : Bool} {c : Nat} {q e : Int} (h1 : e ≤ q) (h2 : -400 ≤ e) : FP.Core.signed s (FP.Core.inUnits c q e) * ((2 ^ (e + 400).toNat : Nat) : Int) = zI s c q := by
  unfold zI fZ FP.Core.inUnits
  rw [← sgn_mul, Nat.mul_assoc, pw2 (z := (q + 400).toNat) (by omega)]
/-- a sum -/
theorem fsum_F {s t : Bool} {c d V : Nat} {q r : Int} (hc : fFit c q) (hd : fFit d r) (hV : fRep V) (hle : (zI s c q + zI t d r).natAbs ≤ V) :
    ∃ (c' : Nat) (q' : Int), FP.Core.round FP.Core.b32 (FP.Core.exactSum (.fin s c q) (.fin t d r)) = .fin (FP.Core.sumSign s t (FP.Core.sumUnits s c q t d r (min q r))) c' q' ∧ fFit c' q' ∧ fZ c' q' ≤ V ∧ (zI s c q + zI t d r = 0 → c' = 0) ∧ (0 < zI s c q + zI t d r → FP.Core.sumSign s t (FP.Core.sumUnits s c q t d r (min q r)) = false) ∧ (zI s c q + zI t d r < 0 → FP.Core.sumSign s t (FP.Core.sumUnits s c q t d r (min q r)) = true) := by
  obtain ⟨c1, c2, c3, -⟩ := hc
  obtain ⟨d1, d2, d3, -⟩ := hd
  generalize hm : min q r = m
  have m1 : m ≤ q := by omega
  have m2 : m ≤ r := by omega
  have m3 : -149 ≤ m := by omega
  have hv : FP.Core.sumUnits s c q t d r m * ((2 ^ (m + 400).toNat : Nat) : Int) = zI s c q + zI t d r := by
    unfold FP.Core.sumUnits
    rw [Int.add_mul, zI_units m1 (by omega), zI_units m2 (by omega)]
  generalize hvv : FP.Core.sumUnits s c q t d r m = v at hv
  have hP : (0 : Int) < ((2 ^ (m + 400).toNat : Nat) : Int) := Int.natCast_pos.mpr (p2pos _)
  have hcm : ∀ (x : Nat) (y : Int), x < 2 ^ 24 → y ≤ 104 → m ≤ y → FP.Core.inUnits x y m < 2 ^ 24 * 2 ^ 253 := by
    intro x y hx hy hmy
    unfold FP.Core.inUnits
    calc x * 2 ^ (y - m).toNat < 2 ^ 24 * 2 ^ (y - m).toNat := Nat.mul_lt_mul_of_pos_right hx (p2pos _)
      _ ≤ 2 ^ 24 * 2 ^ 253 := Nat.mul_le_mul_left _ (Nat.pow_le_pow_right (by decide) (by omega))
  have hA : v.natAbs * 2 ^ (m + 400).toNat = (zI s c q + zI t d r).natAbs := by
    rw [← hv, Int.natAbs_mul, Int.natAbs_natCast]
  have hx : FP.Core.round FP.Core.b32 (FP.Core.exactSum (.fin s c q) (.fin t d r)) = FP.Core.roundRatio FP.Core.b32 (FP.Core.sumSign s t (FP.Core.sumUnits s c q t d r (min q r))) (FP.Core.sumUnits s c q t d r (min q r)).natAbs 1 (min q r) := rfl
  rw [hx, hm, hvv]
  have hbig : v.natAbs < 2 ^ 300 := by
    have h1 := hcm c q c1 c3 m1
    have h2 := hcm d r d1 d3 m2
    have h3 : v.natAbs ≤ FP.Core.inUnits c q m + FP.Core.inUnits d r m := by
      rw [← hvv]
      unfold FP.Core.sumUnits
      refine Nat.le_trans (Int.natAbs_add_le _ _) ?_
      rw [sgn_abs, sgn_abs]
      exact Nat.le_refl _
    have h4 : 2 ^ 24 * 2 ^ 253 + 2 ^ 24 * 2 ^ 253 ≤ 2 ^ 300 := by decide +kernel
    omega
  obtain ⟨c', q', e1, e2, e3, e4⟩ := fl_round (s := FP.Core.sumSign s t v) (A := v.natAbs) (B := 1) (V := V) (e := m) (by decide) hbig (by decide) (by omega) (by omega) hV (by rw [hA, Nat.one_mul]; exact hle)
  refine ⟨c', q', e1, e2, e3, fun h => e4 ?_, fun h => ?_, fun h => ?_⟩
  · rw [h] at hA
    rcases Nat.mul_eq_zero.mp hA with z | z
    · exact z
    · exact absurd z (Nat.pos_iff_ne_zero.mp (p2pos _))
  · have hp : 0 < v := by
      rw [← hv] at h
      exact Int.not_le.mp fun z => absurd (Int.mul_nonpos_of_nonpos_of_nonneg z (Int.le_of_lt hP)) (by omega)
    unfold FP.Core.sumSign
    rw [if_neg (by omega), decide_eq_false (by omega)]
  · have hp : v < 0 := by
      rw [← hv] at h
      exact Int.not_le.mp fun z => absurd (Int.mul_nonneg z (Int.le_of_lt hP)) (by omega)
    unfold FP.Core.sumSign
    rw [if_neg (by omega), decide_eq_true hp]
/-- a product -/
theorem fmul_F {x y : UInt32} {s t : Bool} {c d V : Nat} {q r : Int} (hx : fD x = .fin s c q) (hy : fD y = .fin t d r) (hV : fRep V) (hle : fZ c q * fZ d r ≤ V * 2 ^ 400) :
    ∃ (c' : Nat) (q' : Int), fD (FP.fmul x y) = .fin (s != t) c' q' ∧ fZ c' q' ≤ V ∧ (c * d = 0 → c' = 0) := by
  obtain ⟨c1, c2, c3, -⟩ := (dec_fit hx).1
  obtain ⟨d1, d2, d3, -⟩ := (dec_fit hy).1
  have hcd : c * d < 2 ^ 300 := Nat.lt_of_le_of_lt (Nat.mul_le_mul (Nat.le_of_lt c1) (Nat.le_of_lt d1)) (by decide +kernel)
  obtain ⟨c', q', e1, e2, e3, e4⟩ := fl_round (s := (s != t)) (A := c * d) (B := 1) (V := V) (e := q + r) (by decide) hcd (by decide) (by omega) (by omega) hV (by
    rw [Nat.one_mul]
    refine Nat.le_of_mul_le_mul_right (c := 2 ^ 400) ?_ (p2pos _)
    refine Nat.le_trans (Nat.le_of_eq ?_) hle
    unfold fZ
    have e : 2 ^ (q + r + 400).toNat * 2 ^ 400 = 2 ^ (q + 400).toNat * 2 ^ (r + 400).toNat := by
      rw [pw2 (z := (q + r + 800).toNat) (by omega), pw2 (z := (q + r + 800).toNat) (by omega)]
    calc c * d * 2 ^ (q + r + 400).toNat * 2 ^ 400 = c * d * (2 ^ (q + r + 400).toNat * 2 ^ 400) := by ac_rfl
      _ = c * 2 ^ (q + 400).toNat * (d * 2 ^ (r + 400).toNat) := by rw [e]; ac_rfl)
  refine ⟨c', q', ?_, e3, e4⟩
  show fD (UInt32.ofNat (FP.Core.encode FP.Core.b32 (FP.Core.round FP.Core.b32 (FP.Core.exactProduct (fD x) (fD y))))) = _
  rw [hx, hy]
  exact fD_of e1 e2
/-- a quotient by one at least -/
theorem fdiv_F {x y : UInt32} {s t : Bool} {c d V : Nat} {q r : Int} (hx : fD x = .fin s c q) (hy : fD y = .fin t d r) (hV : fRep V) (h1 : 2 ^ 400 ≤ fZ d r) (hle : fZ c q ≤ V) :
    ∃ (c' : Nat) (q' : Int), fD (FP.fdiv x y) = .fin (s != t) c' q' ∧ fZ c' q' ≤ V ∧ (c = 0 → c' = 0) := by
  obtain ⟨c1, c2, c3, -⟩ := (dec_fit hx).1
  obtain ⟨d1, d2, d3, -⟩ := (dec_fit hy).1
  have hd : d ≠ 0 := fun z => by
    rw [z] at h1
    unfold fZ at h1
    rw [Nat.zero_mul] at h1
    exact absurd h1 (Nat.not_le.mpr (p2pos _))
  have hcb : c < 2 ^ 300 := Nat.lt_of_lt_of_le c1 (by decide +kernel)
  have hdb : d < 2 ^ 100 := Nat.lt_of_lt_of_le d1 (by decide +kernel)
  obtain ⟨c', q', e1, e2, e3, e4⟩ := fl_round (s := (s != t)) (A := c) (B := d) (V := V) (e := q - r) (Nat.pos_of_ne_zero hd) hcb hdb (by omega) (by omega) hV (by
    refine Nat.le_of_mul_le_mul_right (c := 2 ^ (r + 400).toNat) ?_ (p2pos _)
    have e : 2 ^ (q - r + 400).toNat * 2 ^ (r + 400).toNat = 2 ^ (q + 400).toNat * 2 ^ 400 := by
      rw [pw2 (z := (q + 800).toNat) (by omega), pw2 (z := (q + 800).toNat) (by omega)]
    calc c * 2 ^ (q - r + 400).toNat * 2 ^ (r + 400).toNat = c * (2 ^ (q - r + 400).toNat * 2 ^ (r + 400).toNat) := by ac_rfl
      _ = fZ c q * 2 ^ 400 := by rw [e]; unfold fZ; ac_rfl
      _ ≤ V * fZ d r := Nat.mul_le_mul hle h1
      _ = d * V * 2 ^ (r + 400).toNat := by unfold fZ; ac_rfl)
  refine ⟨c', q', ?_, e3, e4⟩
  have hq : FP.Core.quotient FP.Core.b32 (.fin s c q) (.fin t d r) = FP.Core.roundRatio FP.Core.b32 (s != t) c d (q - r) := by
    show (if d = 0 then _ else _) = _
    rw [if_neg hd]
  show fD (UInt32.ofNat (FP.Core.encode FP.Core.b32 (FP.Core.quotient FP.Core.b32 (fD x) (fD y)))) = _
  rw [hx, hy, hq]
  exact fD_of e1 e2
theorem fadd_F {x y : UInt32} {s t : Bool} {c d V : Nat} {q r : Int} (hx : fD x = .fin s c q) (hy : fD y = .fin t d r) (hV : fRep V) (hle : (zI s c q + zI t d r).natAbs ≤ V) :
    ∃ (s' : Bool) (c' : Nat) (q' : Int), fD (FP.fadd x y) = .fin s' c' q' ∧ fZ c' q' ≤ V ∧ (zI s c q + zI t d r = 0 → c' = 0) ∧ (0 < zI s c q + zI t d r → s' = false) ∧ (zI s c q + zI t d r < 0 → s' = true) := by
  obtain ⟨c', q', e1, e2, e3, e4, e5, e6⟩ := fsum_F (s := s) (t := t) (dec_fit hx).1 (dec_fit hy).1 hV hle
  refine ⟨_, c', q', ?_, e3, e4, e5, e6⟩
  show fD (UInt32.ofNat (FP.Core.encode FP.Core.b32 (FP.Core.round FP.Core.b32 (FP.Core.exactSum (fD x) (fD y))))) = _
  rw [hx, hy]
  exact fD_of e1 e2
theorem zI_not (t : Bool) (d : Nat) (r : Int) : zI (!t) d r = -zI t d r := by
  unfold zI FP.Core.signed
  cases t <;> simp
theorem fsub_F {x y : UInt32} {s t : Bool} {c d V : Nat} {q r : Int} (hx : fD x = .fin s c q) (hy : fD y = .fin t d r) (hV : fRep V) (hle : (zI s c q - zI t d r).natAbs ≤ V) :
    ∃ (s' : Bool) (c' : Nat) (q' : Int), fD (FP.fsub x y) = .fin s' c' q' ∧ fZ c' q' ≤ V ∧ (zI s c q - zI t d r = 0 → c' = 0) ∧ (0 < zI s c q - zI t d r → s' = false) ∧ (zI s c q - zI t d r < 0 → s' = true) := by
  have hn : zI s c q + zI (!t) d r = zI s c q - zI t d r := by rw [zI_not]; omega
  obtain ⟨c', q', e1, e2, e3, e4, e5, e6⟩ := fsum_F (s := s) (t := !t) (dec_fit hx).1 (dec_fit hy).1 hV (by rw [hn]; exact hle)
  rw [hn] at e4 e5 e6
  refine ⟨_, c', q', ?_, e3, e4, e5, e6⟩
  show fD (UInt32.ofNat (FP.Core.encode FP.Core.b32 (FP.Core.round FP.Core.b32 (FP.Core.exactSum (fD x) (FP.Core.negate (fD y)))))) = _
  rw [hx, hy]
  exact fD_of e1 e2
