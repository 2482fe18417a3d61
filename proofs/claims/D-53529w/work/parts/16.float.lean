/-! FLOATS: what a sum, a difference, a product, a quotient of bounded floats is: finite, bounded, of known sign -/
theorem pw2 {x y z : Nat} (h : x + y = z) : 2 ^ x * 2 ^ y = 2 ^ z := by rw [← Nat.pow_add, h]
theorem p2pos (n : Nat) : 0 < 2 ^ n := Nat.two_pow_pos n
theorem b32_qmin : FP.Core.b32.qmin = -149 := by decide
theorem b32_qmax : FP.Core.b32.qmax = 104 := by decide
theorem b32_tails : FP.Core.b32.tails = 2 ^ 23 := by decide
theorem b32_exps : FP.Core.b32.exps = 256 := by decide
theorem b32_p : FP.Core.b32.p = 24 := rfl
theorem near_le {A B M : Nat} (hB : 0 < B) (h : A ≤ M * B) : FP.Core.nearest A B ≤ M := by
  unfold FP.Core.nearest
  have h0 : A / B ≤ M := Nat.div_le_of_le_mul (by rw [Nat.mul_comm]; exact h)
  have hd : B * (A / B) + A % B = A := Nat.div_add_mod A B
  rcases Nat.lt_or_ge (A / B) M with c | c
  · split
    · exact h0
    · split
      · exact c
      · have := Nat.mod_lt (A / B) (by decide : 0 < 2); omega
  · have e : A / B = M := Nat.le_antisymm h0 c
    have hz : A % B = 0 := by
      rw [e, Nat.mul_comm] at hd
      omega
    rw [hz, if_pos (by omega)]
    exact h0
theorem near_ge {A B M : Nat} (hB : 0 < B) (h : M * B ≤ A) : M ≤ FP.Core.nearest A B := by
  have h0 : M ≤ A / B := (Nat.le_div_iff_mul_le hB).mpr h
  unfold FP.Core.nearest
  split
  · exact h0
  · split <;> omega
/-- the leading digit isn't above the number -/
theorem lead_le {A B : Nat} (hA : 0 < A) (hB : 0 < B) (h1 : A < 2 ^ 300) (h2 : B < 2 ^ 100) : -101 ≤ FP.Core.leading A B ∧ FP.Core.leading A B ≤ 300 ∧ B * 2 ^ (FP.Core.leading A B + 400).toNat ≤ A * 2 ^ 400 := by
  have a1 : 2 ^ A.log2 ≤ A := Nat.log2_self_le (by omega)
  have b1 : B < 2 ^ (B.log2 + 1) := Nat.lt_log2_self
  have a2 : A.log2 < 300 := (Nat.log2_lt (by omega)).mpr h1
  have b2 : B.log2 < 100 := (Nat.log2_lt (by omega)).mpr h2
  unfold FP.Core.leading
  dsimp only
  split
  · rename_i h
    refine ⟨by omega, by omega, ?_⟩
    rcases Int.le_total 0 ((A.log2 : Int) - (B.log2 : Int)) with c | c
    · have e1 : (-((A.log2 : Int) - (B.log2 : Int))).toNat = 0 := by omega
      rw [e1, Nat.pow_zero, Nat.mul_one] at h
      have e2 : ((A.log2 : Int) - (B.log2 : Int) + 400).toNat = ((A.log2 : Int) - (B.log2 : Int)).toNat + 400 := by omega
      rw [e2, Nat.pow_add, ← Nat.mul_assoc]
      exact Nat.mul_le_mul_right _ h
    · have e1 : ((A.log2 : Int) - (B.log2 : Int)).toNat = 0 := by omega
      rw [e1, Nat.pow_zero, Nat.mul_one] at h
      have e2 : (-((A.log2 : Int) - (B.log2 : Int))).toNat + ((A.log2 : Int) - (B.log2 : Int) + 400).toNat = 400 := by omega
      have := Nat.mul_le_mul_right (2 ^ ((A.log2 : Int) - (B.log2 : Int) + 400).toNat) h
      rwa [Nat.mul_assoc, pw2 e2] at this
  · refine ⟨by omega, by omega, ?_⟩
    have e2 : B.log2 + 1 + ((A.log2 : Int) - (B.log2 : Int) - 1 + 400).toNat = A.log2 + 400 := by omega
    calc B * 2 ^ ((A.log2 : Int) - (B.log2 : Int) - 1 + 400).toNat ≤ 2 ^ (B.log2 + 1) * 2 ^ ((A.log2 : Int) - (B.log2 : Int) - 1 + 400).toNat := Nat.mul_le_mul_right _ (Nat.le_of_lt b1)
      _ = 2 ^ A.log2 * 2 ^ 400 := by rw [pw2 e2, ← Nat.pow_add]
      _ ≤ A * 2 ^ 400 := Nat.mul_le_mul_right _ a1
/-- a magnitude in units of 2^-400 -/
def fZ (c : Nat) (q : Int) : Nat := c * 2 ^ (q + 400).toNat
def fFit (c : Nat) (q : Int) : Prop := c < 2 ^ 24 ∧ -149 ≤ q ∧ q ≤ 104 ∧ (q = -149 ∨ 2 ^ 23 ≤ c)
def fRep (V : Nat) : Prop := ∃ (c : Nat) (q : Int), c < 2 ^ 24 ∧ -149 ≤ q ∧ q ≤ 104 ∧ V = fZ c q
/-- rounding: not above a float that isn't below -/
theorem fl_round {s : Bool} {A B V : Nat} {e : Int} (hB : 0 < B) (h1 : A < 2 ^ 300) (h2 : B < 2 ^ 100) (he : -400 ≤ e) (he2 : e ≤ 400) (hV : fRep V) (hle : A * 2 ^ (e + 400).toNat ≤ B * V) :
    ∃ (c : Nat) (q : Int), FP.Core.roundRatio FP.Core.b32 s A B e = .fin s c q ∧ fFit c q ∧ fZ c q ≤ V ∧ (A = 0 → c = 0) := by
  obtain ⟨cV, qV, v1, v2, v3, rfl⟩ := hV
  unfold FP.Core.roundRatio
  by_cases hA0 : A = 0
  · rw [if_pos hA0]
    exact ⟨0, -149, by rw [b32_qmin], ⟨by decide, by decide, by decide, Or.inl rfl⟩, by simp [fZ], fun _ => rfl⟩
  rw [if_neg hA0]
  have hA : 0 < A := Nat.pos_of_ne_zero hA0
  obtain ⟨k1, k3, k2⟩ := lead_le hA hB h1 h2
  have hq : FP.Core.quantum FP.Core.b32 A B e = max (-149) (FP.Core.leading A B + e - 23) := by
    unfold FP.Core.quantum
    rw [b32_qmin, b32_p]
    rfl
  generalize FP.Core.leading A B = k at k1 k2 k3 hq
  rw [hq]
  generalize hq0 : max (-149 : Int) (k + e - 23) = q0
  have q1 : -149 ≤ q0 := by omega
  unfold FP.Core.roundAt FP.Core.unitsNum FP.Core.unitsDen
  -- p1 * b0 = a * p2
  have R1 : 2 ^ (e - q0).toNat * 2 ^ (q0 + 400).toNat = 2 ^ (e + 400).toNat * 2 ^ (q0 - e).toNat := by
    rcases Int.le_total q0 e with c | c
    · rw [pw2 (z := (e + 400).toNat) (by omega), show (q0 - e).toNat = 0 by omega, Nat.pow_zero, Nat.mul_one]
    · rw [show (e - q0).toNat = 0 by omega, Nat.pow_zero, Nat.one_mul, pw2 (z := (q0 + 400).toNat) (by omega)]
  have hUD : 0 < B * 2 ^ (q0 - e).toNat := Nat.mul_pos hB (p2pos _)
  have hb0 : 0 < 2 ^ (q0 + 400).toNat := p2pos _
  have U1 : (A * 2 ^ (e - q0).toNat) * 2 ^ (q0 + 400).toNat = (A * 2 ^ (e + 400).toNat) * 2 ^ (q0 - e).toNat := by
    rw [Nat.mul_assoc, R1, Nat.mul_assoc]
  -- the number is at least 2^(k + e)
  have low : B * 2 ^ (k + e + 400).toNat ≤ A * 2 ^ (e + 400).toNat ∨ k + e + 400 < 0 := by
    rcases Int.lt_or_le (k + e + 400) 0 with c | c
    · exact Or.inr c
    · refine Or.inl ?_
      rcases Int.le_total 0 e with d | d
      · have := Nat.mul_le_mul_right (2 ^ e.toNat) k2
        rw [Nat.mul_assoc, Nat.mul_assoc, pw2 (z := (k + e + 400).toNat) (by omega), pw2 (z := (e + 400).toNat) (by omega)] at this
        exact this
      · refine Nat.le_of_mul_le_mul_right (c := 2 ^ (-e).toNat) ?_ (p2pos _)
        rw [Nat.mul_assoc, Nat.mul_assoc, pw2 (z := (k + 400).toNat) (by omega), pw2 (z := 400) (by omega)]
        exact k2
  have hqV : q0 ≤ qV := by
    refine Int.not_lt.mp fun c => ?_
    have hqk : q0 = k + e - 23 := by omega
    rcases low with low | low
    · have e1 : 2 ^ 24 * 2 ^ (qV + 400).toNat ≤ 2 ^ (k + e + 400).toNat := by
        rw [← Nat.pow_add]
        exact Nat.pow_le_pow_right (by decide) (by omega)
      have e2 : B * (cV * 2 ^ (qV + 400).toNat) < B * 2 ^ (k + e + 400).toNat := by
        refine Nat.mul_lt_mul_of_pos_left ?_ hB
        exact Nat.lt_of_lt_of_le (Nat.mul_lt_mul_of_pos_right v1 (p2pos _)) e1
      have hle' : A * 2 ^ (e + 400).toNat ≤ B * (cV * 2 ^ (qV + 400).toNat) := hle
      omega
    · omega
  have hM : FP.Core.nearest (A * 2 ^ (e - q0).toNat) (B * 2 ^ (q0 - e).toNat) ≤ cV * 2 ^ (qV - q0).toNat := by
    refine near_le hUD ?_
    refine Nat.le_of_mul_le_mul_right (c := 2 ^ (q0 + 400).toNat) ?_ hb0
    rw [U1]
    have e3 : 2 ^ (qV - q0).toNat * 2 ^ (q0 + 400).toNat = 2 ^ (qV + 400).toNat := pw2 (by omega)
    calc A * 2 ^ (e + 400).toNat * 2 ^ (q0 - e).toNat ≤ (B * (cV * 2 ^ (qV + 400).toNat)) * 2 ^ (q0 - e).toNat := Nat.mul_le_mul_right _ hle
      _ = cV * 2 ^ (qV - q0).toNat * (B * 2 ^ (q0 - e).toNat) * 2 ^ (q0 + 400).toNat := by
        rw [← e3]
        ac_rfl
  have hlow : q0 = -149 ∨ 2 ^ 23 ≤ FP.Core.nearest (A * 2 ^ (e - q0).toNat) (B * 2 ^ (q0 - e).toNat) := by
    rcases Int.lt_or_le (-149) (k + e - 23) with c | c
    · refine Or.inr ?_
      have hqk : q0 = k + e - 23 := by omega
      refine near_ge hUD ?_
      refine Nat.le_of_mul_le_mul_right (c := 2 ^ (q0 + 400).toNat) ?_ hb0
      rw [U1]
      rcases low with low | low
      · have e4 : 2 ^ 23 * 2 ^ (q0 + 400).toNat = 2 ^ (k + e + 400).toNat := pw2 (by omega)
        calc 2 ^ 23 * (B * 2 ^ (q0 - e).toNat) * 2 ^ (q0 + 400).toNat = B * (2 ^ 23 * 2 ^ (q0 + 400).toNat) * 2 ^ (q0 - e).toNat := by ac_rfl
          _ = B * 2 ^ (k + e + 400).toNat * 2 ^ (q0 - e).toNat := by rw [e4]
          _ ≤ A * 2 ^ (e + 400).toNat * 2 ^ (q0 - e).toNat := Nat.mul_le_mul_right _ low
      · omega
    · exact Or.inl (by omega)
  have e5 : 2 ^ (qV - q0).toNat * 2 ^ (q0 + 400).toNat = 2 ^ (qV + 400).toNat := pw2 (by omega)
  generalize FP.Core.nearest (A * 2 ^ (e - q0).toNat) (B * 2 ^ (q0 - e).toNat) = c at hM hlow
  unfold FP.Core.settle FP.Core.bound
  rw [b32_p, b32_qmax, b32_tails]
  by_cases hc : c < 2 ^ 24
  · rw [if_pos hc, if_pos (by omega)]
    refine ⟨c, q0, rfl, ⟨hc, q1, by omega, hlow⟩, ?_, fun h => absurd h hA0⟩
    unfold fZ
    calc c * 2 ^ (q0 + 400).toNat ≤ (cV * 2 ^ (qV - q0).toNat) * 2 ^ (q0 + 400).toNat := Nat.mul_le_mul_right _ hM
      _ = cV * 2 ^ (qV + 400).toNat := by rw [Nat.mul_assoc, e5]
  · have hlt : q0 < qV := by
      refine Int.not_le.mp fun d => ?_
      rw [show (qV - q0).toNat = 0 by omega, Nat.pow_zero, Nat.mul_one] at hM
      omega
    rw [if_neg hc, if_pos (by omega)]
    refine ⟨2 ^ 23, q0 + 1, rfl, ⟨by decide, by omega, by omega, Or.inr (Nat.le_refl _)⟩, ?_, fun h => absurd h hA0⟩
    unfold fZ
    calc 2 ^ 23 * 2 ^ (q0 + 1 + 400).toNat = 2 ^ 24 * 2 ^ (q0 + 400).toNat := by rw [pw2 (z := (q0 + 424).toNat) (by omega), pw2 (z := (q0 + 424).toNat) (by omega)]
      _ ≤ c * 2 ^ (q0 + 400).toNat := Nat.mul_le_mul_right _ (by omega)
      _ ≤ (cV * 2 ^ (qV - q0).toNat) * 2 ^ (q0 + 400).toNat := Nat.mul_le_mul_right _ hM
      _ = cV * 2 ^ (qV + 400).toNat := by rw [Nat.mul_assoc, e5]
