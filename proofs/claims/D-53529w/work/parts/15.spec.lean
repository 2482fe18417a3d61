/-! WHAT IS COMPUTED, on a row of numbers F (the reference's 'now'): orders by seven from place 12 on -/
def fo (F : Nat → Int32) (o k : Nat) : Int32 := F (12 + 7 * o + k)
def fIn (v a b : Int32) : Bool := decide (a ≤ v) && decide (v ≤ b)
def oI : Option Nat → Int32
  | none => -5
  | some o => nI o
theorem oI_n {r : Option Nat} (h : oI r = -5) (hb : ∀ b, r = some b → b < 2 ^ 31) : r = none := by
  cases r with
  | none => rfl
  | some b =>
    have h1 : nI b = -5 := h
    have h2 := nI_pos (hb b rfl)
    rw [h1] at h2
    exact absurd (by decide) h2
theorem oI_s {r : Option Nat} (h : ¬ oI r = -5) : ∃ b, r = some b := by
  cases r with
  | none => exact absurd rfl h
  | some b => exact ⟨b, rfl⟩
theorem nI_n5 {b : Nat} (h : b < 2 ^ 31) : ¬ nI b = -5 := fun e => by
  have h2 := nI_pos h
  rw [e] at h2
  exact absurd (by decide) h2
/-- whether order o hangs; for the word w -/
def fHg (F : Nat → Int32) (o : Nat) : Bool := decide (fo F o 6 = 1)
def fHf (F : Nat → Int32) (w : Int32) (o : Nat) : Bool := fHg F o && decide (fo F o 1 = w)
def fRk (F : Nat → Int32) (o : Nat) : Int32 := F (6 + (fo F o 0).toNatClampNeg)
/-- how many places of [a, a + n) have the property -/
def fCnt (q : Nat → Bool) (a : Nat) : Nat → Nat
  | 0 => 0
  | n + 1 => fCnt q a n + if q (a + n) then 1 else 0
theorem fCnt_le (q : Nat → Bool) (a : Nat) : ∀ n, fCnt q a n ≤ n
  | 0 => Nat.le_refl 0
  | n + 1 => by
    have := fCnt_le q a n
    unfold fCnt
    split <;> omega
theorem cnt_f {q : Nat → Bool} {a j : Nat} (h : bI (q (a + j)) = 0) : nI (fCnt q a j) + 0 = nI (fCnt q a (j + 1)) := by
  have h1 : q (a + j) = false := bI_0.mp h
  show nI (fCnt q a j) + nI 0 = _
  rw [nI_add]
  simp [fCnt, h1]
theorem cnt_t {q : Nat → Bool} {a j : Nat} (h : ¬ bI (q (a + j)) = 0) : nI (fCnt q a j) + 1 = nI (fCnt q a (j + 1)) := by
  have h1 : q (a + j) = true := bI_n0.mp h
  rw [nI_1]
  simp [fCnt, h1]
/-- the sum of the marks -/
def fAll (F : Nat → Int32) : Nat → Int32
  | 0 => 0
  | n + 1 => fAll F n + fo F n 6
/-- which order rules a word among the first n; which is the last that hangs for it -/
def fBt (F : Nat → Int32) (n : Nat) : Option Nat → Bool
  | none => true
  | some b => decide (¬ fRk F n < fRk F b)
def fRul (F : Nat → Int32) (w : Int32) : Nat → Option Nat
  | 0 => none
  | n + 1 => if fHf F w n && fBt F n (fRul F w n) then some n else fRul F w n
def fTop (F : Nat → Int32) (w : Int32) : Nat → Option Nat
  | 0 => none
  | n + 1 => if fHf F w n then some n else fTop F w n
theorem fRul_lt {F : Nat → Int32} {w : Int32} : ∀ {n b : Nat}, fRul F w n = some b → b < n
  | n + 1, b, h => by
    unfold fRul at h
    split at h
    · cases h; exact Nat.lt_succ_self _
    · exact Nat.lt_succ_of_lt (fRul_lt h)
theorem fTop_lt {F : Nat → Int32} {w : Int32} : ∀ {n b : Nat}, fTop F w n = some b → b < n
  | n + 1, b, h => by
    unfold fTop at h
    split at h
    · cases h; exact Nat.lt_succ_self _
    · exact Nat.lt_succ_of_lt (fTop_lt h)
theorem rul_a {F : Nat → Int32} {w : Int32} {j : Nat} (h : bI (fHf F w j) = 0) : fRul F w (j + 1) = fRul F w j := by
  simp [fRul, bI_0.mp h]
theorem rul_b {F : Nat → Int32} {w : Int32} {j : Nat} (h : ¬ bI (fHf F w j) = 0) (h2 : fRul F w j = none) : fRul F w (j + 1) = some j := by
  simp [fRul, fBt, bI_n0.mp h, h2]
theorem rul_c {F : Nat → Int32} {w : Int32} {j b : Nat} (h : ¬ bI (fHf F w j) = 0) (h2 : fRul F w j = some b) (h3 : ¬ fRk F j < fRk F b) : fRul F w (j + 1) = some j := by
  simp only [fRul, fBt, bI_n0.mp h, h2, Bool.true_and, decide_eq_true h3, if_true]
theorem rul_d {F : Nat → Int32} {w : Int32} {j b : Nat} (h2 : fRul F w j = some b) (h3 : fRk F j < fRk F b) : fRul F w (j + 1) = some b := by
  simp only [fRul, fBt, h2, decide_eq_false (not_not_intro h3), Bool.and_false]
  rfl
theorem top_a {F : Nat → Int32} {w : Int32} {j : Nat} (h : bI (fHf F w j) = 0) : fTop F w (j + 1) = fTop F w j := by
  simp [fTop, bI_0.mp h]
theorem top_b {F : Nat → Int32} {w : Int32} {j : Nat} (h : ¬ bI (fHf F w j) = 0) : fTop F w (j + 1) = some j := by
  simp [fTop, bI_n0.mp h]
/-- places -/
theorem ix_o (o k : Nat) : ((12 : Int32) + 7 * nI o) + nI k = nI (12 + 7 * o + k) := by
  show (nI 12 + nI 7 * nI o) + nI k = _
  rw [pk_mul, nI_add, nI_add]
theorem ix_a (a b : Nat) : nI a + nI b = nI (a + b) := nI_add a b
theorem ge_end {F : Nat → Int32} {N a : Nat} (hN : F 1 = nI N) (h : F 1 ≤ nI a) (hN2 : N ≤ 40) (ha : a ≤ N) : a = N := by
  rw [hN] at h
  have := (nI_leI (by omega) (by omega)).mp h
  omega
theorem ge_not {F : Nat → Int32} {N a : Nat} (hN : F 1 = nI N) (h : ¬ F 1 ≤ nI a) (hN2 : N ≤ 40) (ha : a ≤ N) : a < N := by
  rw [hN] at h
  rcases Nat.lt_or_ge a N with q | q
  · exact q
  · exact absurd (nI_le q (by omega)) h
/-- floats by their bits: v from lo to hi; bits that are a number from lo to hi -/
def fRng (v lo hi : UInt32) : Bool := decide (¬ Op.cmpValue (FP.fcmp v lo) .l < 0) && decide (¬ 0 < Op.cmpValue (FP.fcmp v hi) .g)
def fRe (b : Int32) : Bool := decide ((b &&& 2147483647) ≤ 2139095040)
def fFrom (b : Int32) (lo hi : UInt32) : Bool := fRe b && fRng b.toUInt32 lo hi
theorem fRe_toNat (b : Int32) : (b &&& 2147483647).toInt = ((b.toUInt32 &&& 2147483647).toNat : Int) := by
  have h1 : (b &&& 2147483647).toBitVec.toNat = (b.toUInt32 &&& 2147483647).toNat := rfl
  have h2 : (b.toUInt32 &&& 2147483647).toNat < 2 ^ 31 := by
    rw [UInt32.toNat_and]
    exact Nat.lt_of_le_of_lt Nat.and_le_right (by decide)
  rw [← Int32.toInt_toBitVec, BitVec.toInt_eq_toNat_of_lt (by rw [h1]; omega), h1]
theorem fRe_iff {b : Int32} : fRe b = true ↔ (b.toUInt32 &&& 2147483647) ≤ 2139095040 := by
  unfold fRe
  rw [decide_eq_true_iff, Int32.le_iff_toInt_le, fRe_toNat, UInt32.le_iff_toNat_le]
  have : (2139095040 : Int32).toInt = ((2139095040 : UInt32).toNat : Int) := by decide
  rw [this]
  omega
theorem sn_ok {b : Int32} (h : fRe b = true) : vn_sni2f b = false := by
  have h1 := fRe_iff.mp h
  unfold vn_sni2f
  rw [Bool.and_eq_false_iff]
  exact Or.inl (decide_eq_false (UInt32.not_lt.mpr h1))
