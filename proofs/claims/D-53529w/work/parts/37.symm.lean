/-! A DIFFERENCE and its contrary are of one size; NaN is not there -/
theorem rr_sg {f : FP.Core.Fmt} {s s' : Bool} {A B c : Nat} {e q : Int} (h : FP.Core.roundRatio f s A B e = .fin s c q) : FP.Core.roundRatio f s' A B e = .fin s' c q := by
  unfold FP.Core.roundRatio at h ⊢
  by_cases h0 : A = 0
  · rw [if_pos h0] at h ⊢
    cases h
    rfl
  · rw [if_neg h0] at h ⊢
    unfold FP.Core.roundAt FP.Core.settle FP.Core.bound at h ⊢
    split at h
    · rename_i h1
      rw [if_pos h1]
      split at h
      · rename_i h2
        rw [if_pos h2]
        cases h
        rfl
      · cases h
    · rename_i h1
      rw [if_neg h1]
      split at h
      · rename_i h2
        rw [if_pos h2]
        cases h
        rfl
      · cases h
theorem rr_sgn {f : FP.Core.Fmt} {s t : Bool} {A B c : Nat} {e q : Int} (h : FP.Core.roundRatio f s A B e = .fin t c q) : t = s := by
  unfold FP.Core.roundRatio at h
  by_cases h0 : A = 0
  · rw [if_pos h0] at h
    cases h
    rfl
  · rw [if_neg h0] at h
    unfold FP.Core.roundAt FP.Core.settle FP.Core.bound at h
    split at h
    · split at h
      · cases h; rfl
      · cases h
    · split at h
      · cases h; rfl
      · cases h
theorem sub_two {x y : UInt32} {V : Nat} (hx : fB x V) (hy : fB y V) (hV : fRep (2 * V)) : ∃ (c : Nat) (q : Int) (σ τ : Bool), fD (FP.fsub x y) = .fin σ c q ∧ fD (FP.fsub y x) = .fin τ c q := by
  obtain ⟨s, c, q, x1, x2⟩ := hx
  obtain ⟨t, d, r, y1, y2⟩ := hy
  have hn : (zI s c q + zI (!t) d r).natAbs ≤ 2 * V := by
    have h1 := zI_abs s c q
    have h2 := zI_abs (!t) d r
    omega
  obtain ⟨c', q', e1, e2, -⟩ := fsum_F (s := s) (t := !t) (dec_fit x1).1 (dec_fit y1).1 hV hn
  refine ⟨c', q', FP.Core.sumSign s (!t) (FP.Core.sumUnits s c q (!t) d r (min q r)), FP.Core.sumSign t (!s) (FP.Core.sumUnits t d r (!s) c q (min r q)), ?_, ?_⟩
  · show fD (UInt32.ofNat (FP.Core.encode FP.Core.b32 (FP.Core.round FP.Core.b32 (FP.Core.exactSum (fD x) (FP.Core.negate (fD y)))))) = _
    rw [x1, y1]
    exact fD_of e1 e2
  · show fD (UInt32.ofNat (FP.Core.encode FP.Core.b32 (FP.Core.round FP.Core.b32 (FP.Core.exactSum (fD y) (FP.Core.negate (fD x)))))) = _
    rw [x1, y1]
    refine fD_of ?_ e2
    have hu : FP.Core.sumUnits t d r (!s) c q (min r q) = -FP.Core.sumUnits s c q (!t) d r (min q r) := by
      unfold FP.Core.sumUnits FP.Core.signed
      rw [Int.min_comm r q]
      cases s <;> cases t <;> simp <;> omega
    have e3 : FP.Core.roundRatio FP.Core.b32 (FP.Core.sumSign s (!t) (FP.Core.sumUnits s c q (!t) d r (min q r))) (FP.Core.sumUnits s c q (!t) d r (min q r)).natAbs 1 (min q r) = .fin (FP.Core.sumSign s (!t) (FP.Core.sumUnits s c q (!t) d r (min q r))) c' q' := e1
    show FP.Core.roundRatio FP.Core.b32 (FP.Core.sumSign t (!s) (FP.Core.sumUnits t d r (!s) c q (min r q))) (FP.Core.sumUnits t d r (!s) c q (min r q)).natAbs 1 (min r q) = _
    have e4 := rr_sg (s' := FP.Core.sumSign t (!s) (FP.Core.sumUnits t d r (!s) c q (min r q))) e3
    rw [show (FP.Core.sumUnits t d r (!s) c q (min r q)).natAbs = (FP.Core.sumUnits s c q (!t) d r (min q r)).natAbs by rw [hu, Int.natAbs_neg], Int.min_comm r q]
    rw [Int.min_comm r q] at e4
    exact e4
theorem xor_31 {l : Nat} (h : l < 2 ^ 31) : l ^^^ 2 ^ 31 = 2 ^ 31 + l := by
  apply Nat.eq_of_testBit_eq
  intro i
  rw [Nat.testBit_xor, Nat.testBit_two_pow]
  rcases Nat.lt_trichotomy i 31 with c | c | c
  · rw [Nat.testBit_two_pow_add_gt c, decide_eq_false (by omega), Bool.xor_false]
  · subst c
    rw [Nat.testBit_two_pow_add_eq, decide_eq_true rfl, Bool.xor_true]
  · have h1 : l.testBit i = false := Nat.testBit_lt_two_pow (Nat.lt_trans h (Nat.pow_lt_pow_right (by decide) c))
    have h2 : (2 ^ 31 + l).testBit i = false := Nat.testBit_lt_two_pow (Nat.lt_of_lt_of_le (by omega : 2 ^ 31 + l < 2 ^ 32) (Nat.pow_le_pow_right (by decide) c))
    rw [h1, h2, decide_eq_false (by omega)]
    rfl
theorem fneg_nat (x : UInt32) : (FP.fneg x).toNat = if x.toNat < 2 ^ 31 then 2 ^ 31 + x.toNat else x.toNat - 2 ^ 31 := by
  have h0 : (FP.fneg x).toNat = x.toNat ^^^ 2 ^ 31 := UInt32.toNat_xor x 0x80000000
  have hx := x.toNat_lt
  rw [h0]
  split
  · rename_i h
    exact xor_31 h
  · rename_i h
    have e : x.toNat = (x.toNat - 2 ^ 31) ^^^ 2 ^ 31 := by rw [xor_31 (by omega)]; omega
    conv => lhs; rw [e]
    rw [Nat.xor_assoc, Nat.xor_self, Nat.xor_zero]
theorem fneg_F {x : UInt32} {s : Bool} {c : Nat} {q : Int} (hx : fD x = .fin s c q) : fD (FP.fneg x) = .fin (!s) c q := by
  have hl := x.toNat_lt
  have hn := fneg_nat x
  unfold fD at hx ⊢
  rw [dec_eq] at hx ⊢
  have e1 : (FP.fneg x).toNat / 8388608 % 256 = x.toNat / 8388608 % 256 := by rw [hn]; split <;> omega
  have e2 : (FP.fneg x).toNat % 8388608 = x.toNat % 8388608 := by rw [hn]; split <;> omega
  have e3 : ((FP.fneg x).toNat / 8388608 / 256 % 2 == 1) = !(x.toNat / 8388608 / 256 % 2 == 1) := by
    rw [hn]
    by_cases h : x.toNat < 2 ^ 31
    · rw [if_pos h]
      have h1 : (2 ^ 31 + x.toNat) / 8388608 / 256 % 2 = 1 := by omega
      have h2 : x.toNat / 8388608 / 256 % 2 = 0 := by omega
      rw [h1, h2]
      rfl
    · rw [if_neg h]
      have h1 : (x.toNat - 2 ^ 31) / 8388608 / 256 % 2 = 0 := by omega
      have h2 : x.toNat / 8388608 / 256 % 2 = 1 := by omega
      rw [h1, h2]
      rfl
  rw [e1, e2, e3]
  split at hx
  · split at hx <;> cases hx
  · rename_i h1
    rw [if_neg h1]
    split at hx
    · rename_i h2
      rw [if_pos h2]
      cases hx
      rfl
    · rename_i h2
      rw [if_neg h2]
      cases hx
      rfl
theorem fAb_F {x : UInt32} {s : Bool} {c : Nat} {q : Int} (hx : fD x = .fin s c q) : ∃ σ, fD (fAb x) = .fin σ c q ∧ zI σ c q = (fZ c q : Int) := by
  have h0 : zI false 0 (-149) = 0 := by unfold zI fZ; rw [Nat.zero_mul]; rfl
  have hl := cv_lt hx D_0 .g
  rw [h0] at hl
  unfold fAb
  by_cases h : Op.cmpValue (FP.fcmp x 0) .g < 0
  · rw [if_pos h]
    have h1 := hl.mp h
    refine ⟨!s, fneg_F hx, ?_⟩
    rw [zI_not]
    cases s with
    | false => unfold zI FP.Core.signed at h1; simp at h1; omega
    | true => unfold zI FP.Core.signed; simp
  · rw [if_neg h]
    have h1 : ¬ zI s c q < 0 := fun z => h (hl.mpr z)
    refine ⟨s, hx, ?_⟩
    cases s with
    | false => unfold zI FP.Core.signed; simp
    | true =>
      unfold zI FP.Core.signed at h1 ⊢
      simp at h1 ⊢
      omega
theorem tol_F {b : Int32} (h : fFrom b 0 1120403456 = true) : ∃ (s : Bool) (c : Nat) (q : Int), fD b.toUInt32 = .fin s c q := by
  unfold fFrom at h
  rw [Bool.and_eq_true] at h
  obtain ⟨s, c, q, h1, -, -⟩ := fRng_F D_0 D_100 h.2
  exact ⟨s, c, q, h1⟩
theorem df_sym {F : Nat → Int32} {P N : Nat} (ok : fOk F P N) {x y : Option UInt32} (hx : ∀ v, x = some v → fB v (2 ^ 30 * fU)) (hy : ∀ v, y = some v → fB v (2 ^ 30 * fU)) : fDf F x y = fDf F y x := by
  cases x with
  | none => cases y <;> rfl
  | some v =>
    cases y with
    | none => rfl
    | some u =>
      obtain ⟨c, q, σ, τ, e1, e2⟩ := sub_two (hx v rfl) (hy u rfl) (by rw [show 2 * (2 ^ 30 * fU) = 2 ^ 31 * fU by omega]; exact rep_p 31 (by decide))
      obtain ⟨σ', f1, f2⟩ := fAb_F e1
      obtain ⟨τ', g1, g2⟩ := fAb_F e2
      obtain ⟨a, b, d, ht⟩ := tol_F ok.tol
      unfold fDf
      have h1 := cv_gt f1 ht .l
      have h2 := cv_gt g1 ht .l
      rw [f2] at h1
      rw [g2] at h2
      exact decide_eq_decide.mpr (h1.trans h2.symm)
theorem fB_30 {v : UInt32} (h : fB v (1000000000 * fU)) : fB v (2 ^ 30 * fU) := h.mono (Nat.mul_le_mul_right _ (by decide))
/-- whether a value is there, by asking whether it is itself -/
theorem there_1 {v : UInt32} {V : Nat} (h : fB v V) : Op.cmpValue (FP.fcmp v v) .l = 0 := by
  obtain ⟨s, c, q, h1, -⟩ := h
  rw [fcmp_F h1 h1, Int.compare_eq_eq.mpr rfl]
  rfl
theorem there_0 : ¬ Op.cmpValue (FP.fcmp 2143289344 2143289344) .l = 0 := by decide +kernel
theorem nan_n32 : vf_n32 2143289344 ∨ True := Or.inr trivial
