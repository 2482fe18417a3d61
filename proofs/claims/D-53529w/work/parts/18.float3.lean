/-! FLOATS: comparisons, ranges, and what the two programs ask of them -/
theorem fcmp_F {x y : UInt32} {s t : Bool} {c d : Nat} {q r : Int} (hx : fD x = .fin s c q) (hy : fD y = .fin t d r) : FP.fcmp x y = some (compare (zI s c q) (zI t d r)) := by
  obtain ⟨c1, c2, c3, -⟩ := (dec_fit hx).1
  obtain ⟨d1, d2, d3, -⟩ := (dec_fit hy).1
  show FP.Core.order (fD x) (fD y) = _
  rw [hx, hy]
  show some (compare (FP.Core.signed s (FP.Core.inUnits c q (min q r))) (FP.Core.signed t (FP.Core.inUnits d r (min q r)))) = _
  generalize hm : min q r = m
  have hP : (0 : Int) < ((2 ^ (m + 400).toNat : Nat) : Int) := Int.natCast_pos.mpr (p2pos _)
  rw [← zI_units (e := m) (by omega) (by omega), ← zI_units (s := t) (e := m) (by omega) (by omega)]
  congr 1
  generalize FP.Core.signed s (FP.Core.inUnits c q m) = a
  generalize FP.Core.signed t (FP.Core.inUnits d r m) = b
  generalize ((2 ^ (m + 400).toNat : Nat) : Int) = P at hP
  rcases Int.lt_trichotomy a b with h | h | h
  · rw [Int.compare_eq_lt.mpr h, Int.compare_eq_lt.mpr (Int.mul_lt_mul_of_pos_right h hP)]
  · rw [h, Int.compare_eq_eq.mpr rfl, Int.compare_eq_eq.mpr rfl]
  · rw [Int.compare_eq_gt.mpr h, Int.compare_eq_gt.mpr (Int.mul_lt_mul_of_pos_right h hP)]
theorem cv_lt {x y : UInt32} {s t : Bool} {c d : Nat} {q r : Int} (hx : fD x = .fin s c q) (hy : fD y = .fin t d r) (op : CmpOp) : Op.cmpValue (FP.fcmp x y) op < 0 ↔ zI s c q < zI t d r := by
  rw [fcmp_F hx hy]
  rcases Int.lt_trichotomy (zI s c q) (zI t d r) with h | h | h
  · rw [Int.compare_eq_lt.mpr h]; exact ⟨fun _ => h, fun _ => (by decide : (-1 : Int32) < 0)⟩
  · rw [Int.compare_eq_eq.mpr h]; exact ⟨fun z => absurd z (by decide : ¬ (0 : Int32) < 0), fun z => by omega⟩
  · rw [Int.compare_eq_gt.mpr h]; exact ⟨fun z => absurd z (by decide : ¬ (1 : Int32) < 0), fun z => by omega⟩
theorem cv_gt {x y : UInt32} {s t : Bool} {c d : Nat} {q r : Int} (hx : fD x = .fin s c q) (hy : fD y = .fin t d r) (op : CmpOp) : 0 < Op.cmpValue (FP.fcmp x y) op ↔ zI t d r < zI s c q := by
  rw [fcmp_F hx hy]
  rcases Int.lt_trichotomy (zI s c q) (zI t d r) with h | h | h
  · rw [Int.compare_eq_lt.mpr h]; exact ⟨fun z => absurd z (by decide : ¬ (0 : Int32) < -1), fun z => by omega⟩
  · rw [Int.compare_eq_eq.mpr h]; exact ⟨fun z => absurd z (by decide : ¬ (0 : Int32) < 0), fun z => by omega⟩
  · rw [Int.compare_eq_gt.mpr h]; exact ⟨fun _ => h, fun _ => (by decide : (0 : Int32) < 1)⟩
/-- what stands in a range -/
theorem fRng_F {v lo hi : UInt32} {t u : Bool} {d f : Nat} {r w : Int} (hl : fD lo = .fin t d r) (hh : fD hi = .fin u f w) (h : fRng v lo hi = true) : ∃ (s : Bool) (c : Nat) (q : Int), fD v = .fin s c q ∧ zI t d r ≤ zI s c q ∧ zI s c q ≤ zI u f w := by
  unfold fRng at h
  rw [Bool.and_eq_true, decide_eq_true_iff, decide_eq_true_iff] at h
  cases hv : fD v with
  | nan =>
    have e : FP.fcmp v lo = none := by
      show FP.Core.order (fD v) (fD lo) = none
      rw [hv, hl]; rfl
    rw [e] at h
    exact absurd (by decide : (-1 : Int32) < 0) h.1
  | inf s =>
    cases s with
    | true =>
      have e : FP.fcmp v lo = some .lt := by
        show FP.Core.order (fD v) (fD lo) = _
        rw [hv, hl]; rfl
      rw [e] at h
      exact absurd (by decide : (-1 : Int32) < 0) h.1
    | false =>
      have e : FP.fcmp v hi = some .gt := by
        show FP.Core.order (fD v) (fD hi) = _
        rw [hv, hh]; rfl
      rw [e] at h
      exact absurd (by decide : (0 : Int32) < 1) h.2
  | fin s c q => exact ⟨s, c, q, rfl, Int.not_lt.mp (fun z => h.1 ((cv_lt hv hl .l).mpr z)), Int.not_lt.mp (fun z => h.2 ((cv_gt hv hh .g).mpr z))⟩
/-- bounded by V in units of 2^-400; and not negative -/
def fB (x : UInt32) (V : Nat) : Prop := ∃ (s : Bool) (c : Nat) (q : Int), fD x = .fin s c q ∧ fZ c q ≤ V
def fN (x : UInt32) (V : Nat) : Prop := ∃ (s : Bool) (c : Nat) (q : Int), fD x = .fin s c q ∧ (s = false ∨ c = 0) ∧ fZ c q ≤ V
/-- one -/
def fU : Nat := 2 ^ 400
theorem fB.n32 {x : UInt32} {V : Nat} (h : fB x V) : vf_n32 x := by
  obtain ⟨s, c, q, h1, -⟩ := h
  exact fD_n32 h1
theorem fN.B {x : UInt32} {V : Nat} (h : fN x V) : fB x V := by
  obtain ⟨s, c, q, h1, -, h2⟩ := h
  exact ⟨s, c, q, h1, h2⟩
theorem fB.mono {x : UInt32} {V V' : Nat} (h : fB x V) (hV : V ≤ V') : fB x V' := by
  obtain ⟨s, c, q, h1, h2⟩ := h
  exact ⟨s, c, q, h1, Nat.le_trans h2 hV⟩
theorem fN.mono {x : UInt32} {V V' : Nat} (h : fN x V) (hV : V ≤ V') : fN x V' := by
  obtain ⟨s, c, q, h1, h0, h2⟩ := h
  exact ⟨s, c, q, h1, h0, Nat.le_trans h2 hV⟩
theorem zI_abs (s : Bool) (c : Nat) (q : Int) : (zI s c q).natAbs = fZ c q := sgn_abs s _
theorem zI_pos {s : Bool} {c : Nat} {q : Int} (h : s = false ∨ c = 0) : zI s c q = (fZ c q : Int) := by
  unfold zI FP.Core.signed
  rcases h with h | h
  · subst h; simp
  · subst h; simp [fZ]
theorem fB_mul {x y : UInt32} {a b V : Nat} (hx : fB x a) (hy : fB y b) (hV : fRep V) (h : a * b ≤ V * 2 ^ 400) : fB (FP.fmul x y) V := by
  obtain ⟨s, c, q, x1, x2⟩ := hx
  obtain ⟨t, d, r, y1, y2⟩ := hy
  obtain ⟨c', q', e1, e2, -⟩ := fmul_F x1 y1 hV (Nat.le_trans (Nat.mul_le_mul x2 y2) h)
  exact ⟨_, c', q', e1, e2⟩
theorem fN_mul {x y : UInt32} {a b V : Nat} (hx : fN x a) (hy : fN y b) (hV : fRep V) (h : a * b ≤ V * 2 ^ 400) : fN (FP.fmul x y) V := by
  obtain ⟨s, c, q, x1, x0, x2⟩ := hx
  obtain ⟨t, d, r, y1, y0, y2⟩ := hy
  obtain ⟨c', q', e1, e2, e3⟩ := fmul_F x1 y1 hV (Nat.le_trans (Nat.mul_le_mul x2 y2) h)
  refine ⟨_, c', q', e1, ?_, e2⟩
  rcases x0 with x0 | x0
  · rcases y0 with y0 | y0
    · exact Or.inl (by rw [x0, y0]; rfl)
    · exact Or.inr (e3 (by rw [y0]; rfl))
  · exact Or.inr (e3 (by rw [x0, Nat.zero_mul]))
theorem fB_add {x y : UInt32} {a b V : Nat} (hx : fB x a) (hy : fB y b) (hV : fRep V) (h : a + b ≤ V) : fB (FP.fadd x y) V := by
  obtain ⟨s, c, q, x1, x2⟩ := hx
  obtain ⟨t, d, r, y1, y2⟩ := hy
  have hn := Int.natAbs_add_le (zI s c q) (zI t d r)
  rw [zI_abs, zI_abs] at hn
  obtain ⟨s', c', q', e1, e2, -⟩ := fadd_F x1 y1 hV (by omega)
  exact ⟨s', c', q', e1, e2⟩
theorem fB_sub {x y : UInt32} {a b V : Nat} (hx : fB x a) (hy : fB y b) (hV : fRep V) (h : a + b ≤ V) : fB (FP.fsub x y) V := by
  obtain ⟨s, c, q, x1, x2⟩ := hx
  obtain ⟨t, d, r, y1, y2⟩ := hy
  have hn : (zI s c q - zI t d r).natAbs ≤ fZ c q + fZ d r := by
    have h1 := zI_abs s c q
    have h2 := zI_abs t d r
    omega
  obtain ⟨s', c', q', e1, e2, -⟩ := fsub_F x1 y1 hV (by omega)
  exact ⟨s', c', q', e1, e2⟩
/-- of two that aren't negative -/
theorem fN_sub {x y : UInt32} {V : Nat} (hx : fN x V) (hy : fN y V) (hV : fRep V) : fB (FP.fsub x y) V := by
  obtain ⟨s, c, q, x1, x0, x2⟩ := hx
  obtain ⟨t, d, r, y1, y0, y2⟩ := hy
  obtain ⟨s', c', q', e1, e2, -⟩ := fsub_F x1 y1 hV (by rw [zI_pos x0, zI_pos y0]; omega)
  exact ⟨s', c', q', e1, e2⟩
theorem fN_div {x y : UInt32} {V : Nat} (hx : fN x V) (hy : ∃ (d : Nat) (r : Int), fD y = .fin false d r ∧ fU ≤ fZ d r) (hV : fRep V) : fN (FP.fdiv x y) V := by
  obtain ⟨s, c, q, x1, x0, x2⟩ := hx
  obtain ⟨d, r, y1, y2⟩ := hy
  obtain ⟨c', q', e1, e2, e3⟩ := fdiv_F x1 y1 hV y2 x2
  refine ⟨_, c', q', e1, ?_, e2⟩
  rcases x0 with x0 | x0
  · exact Or.inl (by rw [x0]; rfl)
  · exact Or.inr (e3 x0)
theorem fB_div {x y : UInt32} {V : Nat} (hx : fB x V) (hy : ∃ (d : Nat) (r : Int), fD y = .fin false d r ∧ fU ≤ fZ d r) (hV : fRep V) : fB (FP.fdiv x y) V := by
  obtain ⟨s, c, q, x1, x2⟩ := hx
  obtain ⟨d, r, y1, y2⟩ := hy
  obtain ⟨c', q', e1, e2, e3⟩ := fdiv_F x1 y1 hV y2 x2
  exact ⟨_, c', q', e1, e2⟩
theorem rep_u (n : Nat) (q : Int) (h : n < 2 ^ 24) (h1 : -149 ≤ q) (h2 : q ≤ 104) {V : Nat} (hV : V = n * 2 ^ (q + 400).toNat) : fRep V := ⟨n, q, h, h1, h2, hV⟩
theorem rep_n (n : Nat) (h : n < 2 ^ 24) : fRep (n * fU) := rep_u n 0 h (by decide) (by decide) rfl
theorem rep_p (n : Nat) (h : n ≤ 104) : fRep (2 ^ n * fU) := rep_u 1 n (by decide) (by omega) (by omega) (by rw [Nat.one_mul]; unfold fU; exact pw2 (by omega))
/-- numbers, strengths, values -/
theorem D_m1000 : fD 3296329728 = .fin true 16384000 (-14) := by decide +kernel
theorem D_1000 : fD 1148846080 = .fin false 16384000 (-14) := by decide +kernel
theorem D_01 : fD 1036831949 = .fin false 13421773 (-27) := by decide +kernel
theorem D_10 : fD 1092616192 = .fin false 10485760 (-20) := by decide +kernel
theorem D_m1e9 : fD 3463342888 = .fin true 15625000 6 := by decide +kernel
theorem D_1e9 : fD 1315859240 = .fin false 15625000 6 := by decide +kernel
theorem D_100 : fD 1120403456 = .fin false 13107200 (-17) := by decide +kernel
theorem D_h : fD 1056964608 = .fin false 8388608 (-24) := by decide +kernel
theorem D_0 : fD 0 = .fin false 0 (-149) := by decide +kernel
theorem D_1 : fD 1065353216 = .fin false 8388608 (-23) := by decide +kernel
theorem Z_1000 : fZ 16384000 (-14) = 1000 * fU := by unfold fZ fU; decide +kernel
theorem Z_10 : fZ 10485760 (-20) = 10 * fU := by unfold fZ fU; decide +kernel
theorem Z_1e9 : fZ 15625000 6 = 1000000000 * fU := by unfold fZ fU; decide +kernel
theorem Z_100 : fZ 13107200 (-17) = 100 * fU := by unfold fZ fU; decide +kernel
theorem Z_01 : 0 < fZ 13421773 (-27) := by unfold fZ; decide +kernel
theorem Z_h : 2 * fZ 8388608 (-24) = fU := by unfold fZ fU; decide +kernel
theorem Z_1 : fZ 8388608 (-23) = fU := by unfold fZ fU; decide +kernel
theorem fB_num {v : UInt32} (h : fRng v 3296329728 1148846080 = true) : fB v (1000 * fU) := by
  obtain ⟨s, c, q, h1, h2, h3⟩ := fRng_F D_m1000 D_1000 h
  refine ⟨s, c, q, h1, ?_⟩
  have e1 : zI true 16384000 (-14) = -((1000 * fU : Nat) : Int) := by rw [← Z_1000]; rfl
  have e2 : zI false 16384000 (-14) = ((1000 * fU : Nat) : Int) := by rw [← Z_1000]; rfl
  have e3 := zI_abs s c q
  rw [e1] at h2
  rw [e2] at h3
  omega
theorem fB_val {v : UInt32} (h : fRng v 3463342888 1315859240 = true) : fB v (1000000000 * fU) := by
  obtain ⟨s, c, q, h1, h2, h3⟩ := fRng_F D_m1e9 D_1e9 h
  refine ⟨s, c, q, h1, ?_⟩
  have e1 : zI true 15625000 6 = -((1000000000 * fU : Nat) : Int) := by rw [← Z_1e9]; rfl
  have e2 : zI false 15625000 6 = ((1000000000 * fU : Nat) : Int) := by rw [← Z_1e9]; rfl
  have e3 := zI_abs s c q
  rw [e1] at h2
  rw [e2] at h3
  omega
theorem fN_str {v : UInt32} (h : fRng v 1036831949 1092616192 = true) : fN v (10 * fU) := by
  obtain ⟨s, c, q, h1, h2, h3⟩ := fRng_F D_01 D_10 h
  have e1 : zI false 13421773 (-27) = ((fZ 13421773 (-27) : Nat) : Int) := rfl
  have e2 : zI false 10485760 (-20) = ((10 * fU : Nat) : Int) := by rw [← Z_10]; rfl
  have e3 := zI_abs s c q
  have e4 := Z_01
  rw [e1] at h2
  rw [e2] at h3
  have hs : s = false := by
    cases s with
    | false => rfl
    | true =>
      have : zI true c q = -((fZ c q : Nat) : Int) := rfl
      omega
  exact ⟨s, c, q, h1, Or.inl hs, by omega⟩
theorem by_mul {v f : UInt32} (hv : fB v (1000000000 * fU)) (hf : fB f (1000 * fU)) : fB (FP.fmul v f) (2 ^ 40 * fU) :=
  fB_mul hv hf (rep_p 40 (by decide)) (by unfold fU; decide +kernel)
theorem by_add {a n : UInt32} (ha : fB a (2 ^ 40 * fU)) (hn : fB n (1000 * fU)) : fB (FP.fadd a n) (2 ^ 41 * fU) :=
  fB_add ha hn (rep_p 41 (by decide)) (by unfold fU; decide +kernel)
theorem df_sub {a b : UInt32} (ha : fB a (2 ^ 41 * fU)) (hb : fB b (2 ^ 41 * fU)) : fB (FP.fsub a b) (2 ^ 42 * fU) :=
  fB_sub ha hb (rep_p 42 (by decide)) (by unfold fU; decide +kernel)
theorem fB_0 {V : Nat} : fB 0 V := ⟨false, 0, -149, D_0, by unfold fZ; rw [Nat.zero_mul]; exact Nat.zero_le _⟩
theorem num_41 {v : UInt32} (h : fB v (1000 * fU)) : fB v (2 ^ 41 * fU) := h.mono (by unfold fU; decide +kernel)
/-- a small count as a float -/
theorem i2f_small : ∀ n, n < 41 → 1 ≤ n → ∃ (d : Nat) (r : Int), fD (FP.i2f (nI n)) = .fin false d r ∧ fU ≤ fZ d r := by
  have key : ∀ n, n < 41 → 1 ≤ n → (match fD (FP.i2f (nI n)) with | .fin false d r => decide (fU ≤ fZ d r) | _ => false) = true := by unfold fU fZ nI; decide +kernel
  intro n h1 h2
  have h := key n h1 h2
  split at h
  · rename_i d r e
    exact ⟨d, r, e, of_decide_eq_true h⟩
  · cases h
/-- an int as a float -/
theorem i2f_any (a : Int32) : fB (FP.i2f a) (2 ^ 31 * fU) := by
  have ha : a.toInt.natAbs ≤ 2 ^ 31 := by
    have h1 := Int32.le_toInt a
    have h2 := Int32.toInt_lt a
    omega
  obtain ⟨c', q', e1, e2, e3, -⟩ := fl_round (s := decide (a.toInt < 0)) (A := a.toInt.natAbs) (B := 1) (V := 2 ^ 31 * fU) (e := 0) (by decide) (Nat.lt_of_le_of_lt ha (by decide +kernel)) (by decide) (by decide) (by decide) (rep_p 31 (by decide)) (by
    rw [Nat.one_mul]
    exact Nat.mul_le_mul_right _ ha)
  exact ⟨_, c', q', fD_of e1 e2, e3⟩
theorem D_ten : ∃ (d : Nat) (r : Int), fD 1092616192 = .fin false d r ∧ fU ≤ fZ d r := ⟨_, _, D_10, by rw [Z_10]; exact Nat.le_mul_of_pos_left _ (by decide)⟩
theorem tenth_B (a : Int32) : fB (FP.fdiv (FP.i2f a) 1092616192) (2 ^ 31 * fU) := fB_div (i2f_any a) D_ten (rep_p 31 (by decide))
/-- a storm's blow, a hammer's -/
theorem storm_ok {s f : UInt32} {n : Nat} (hs : fN s (16 * fU)) (hf : fN f (10 * fU)) (h1 : 1 ≤ n) (h2 : n < 41) : fB (FP.fdiv f (FP.i2f (nI n))) (10 * fU) ∧ fB (FP.fsub s (FP.fdiv f (FP.i2f (nI n)))) (16 * fU) := by
  have hd := fN_div hf (i2f_small n h2 h1) (rep_n 10 (by decide))
  exact ⟨hd.B, fN_sub hs (hd.mono (Nat.mul_le_mul_right _ (by decide))) (rep_n 16 (by decide))⟩
theorem hammer_ok {s : UInt32} (hs : fN s (16 * fU)) : vf_n32 (FP.fsub 1092616192 s) ∧ vf_n32 (FP.fmul (FP.fsub 1092616192 s) 1056964608) ∧ fN (FP.fadd s (FP.fmul (FP.fsub 1092616192 s) 1056964608)) (16 * fU) := by
  obtain ⟨a, c, q, x1, x0, x2⟩ := hs
  have z10 : zI false 10485760 (-20) = ((10 * fU : Nat) : Int) := by rw [← Z_10]; rfl
  have zs := zI_pos (q := q) x0
  have hh := Z_h
  rcases Nat.lt_or_ge (10 * fU) (fZ c q) with h | h
  · -- s is above ten: what comes to it isn't positive
    obtain ⟨s1, c1, q1, e1, e2, e3, e4, e5⟩ := fsub_F D_10 x1 (V := 6 * fU) (rep_n 6 (by decide)) (by rw [z10, zs]; omega)
    have hs1 : s1 = true := e5 (by rw [z10, zs]; omega)
    subst hs1
    obtain ⟨c2, q2, f1, f2, f3⟩ := fmul_F e1 D_h (V := 3 * fU) (rep_n 3 (by decide)) (by
      refine Nat.le_trans (Nat.mul_le_mul_right _ e2) ?_
      unfold fU fZ; decide +kernel)
    have hz2 : zI true c2 q2 = -((fZ c2 q2 : Nat) : Int) := rfl
    have f1 : fD (FP.fmul (FP.fsub 1092616192 s) 1056964608) = .fin true c2 q2 := f1
    obtain ⟨s3, c3, q3, g1, g2, g3, g4, g5⟩ := fadd_F x1 f1 (V := 16 * fU) (rep_n 16 (by decide)) (by rw [zs, hz2]; omega)
    have hpos : 0 < zI a c q + zI true c2 q2 := by rw [zs, hz2]; omega
    exact ⟨fD_n32 e1, fD_n32 f1, s3, c3, q3, g1, Or.inl (g4 hpos), g2⟩
  · obtain ⟨s1, c1, q1, e1, e2, e3, e4, e5⟩ := fsub_F D_10 x1 (V := 10 * fU) (rep_n 10 (by decide)) (by rw [z10, zs]; omega)
    have hn1 : s1 = false ∨ c1 = 0 := by
      rcases Nat.lt_or_ge (fZ c q) (10 * fU) with k | k
      · exact Or.inl (e4 (by rw [z10, zs]; omega))
      · exact Or.inr (e3 (by rw [z10, zs]; omega))
    have hN2 : fN (FP.fmul (FP.fsub 1092616192 s) 1056964608) (5 * fU) := by
      refine fN_mul (a := 10 * fU) (b := fZ 8388608 (-24)) ⟨s1, c1, q1, e1, hn1, e2⟩ ⟨false, _, _, D_h, Or.inl rfl, Nat.le_refl _⟩ (rep_n 5 (by decide)) ?_
      unfold fU fZ; decide +kernel
    obtain ⟨s2, c2, q2, f1, f0, f2⟩ := hN2
    have hz2 := zI_pos (q := q2) f0
    obtain ⟨s3, c3, q3, g1, g2, g3, g4, g5⟩ := fadd_F x1 f1 (V := 16 * fU) (rep_n 16 (by decide)) (by rw [zs, hz2]; omega)
    refine ⟨fD_n32 e1, fD_n32 f1, s3, c3, q3, g1, ?_, g2⟩
    rcases Nat.eq_zero_or_pos (fZ c q + fZ c2 q2) with k | k
    · exact Or.inr (g3 (by rw [zs, hz2]; omega))
    · exact Or.inl (g4 (by rw [zs, hz2]; omega))
theorem hund_B {s : UInt32} (hs : fB s (16 * fU)) : vf_n32 (FP.fmul s 1120403456) :=
  (fB_mul hs (b := 100 * fU) ⟨false, _, _, D_100, Nat.le_of_eq Z_100⟩ (V := 1600 * fU) (rep_n 1600 (by decide)) (by unfold fU; decide +kernel)).n32
theorem hund_N {s : UInt32} (hs : fN s (16 * fU)) : ¬ FP.f2i (FP.fmul s 1120403456) < 0 := by
  obtain ⟨a, c, q, x1, x0, -⟩ := fN_mul hs (b := 100 * fU) ⟨false, _, _, D_100, Or.inl rfl, Nat.le_of_eq Z_100⟩ (V := 1600 * fU) (rep_n 1600 (by decide)) (by unfold fU; decide +kernel)
  show ¬ FP.Core.toI (fD (FP.fmul s 1120403456)) < 0
  rw [x1]
  have hp : 0 ≤ FP.Core.truncate a c q := by
    unfold FP.Core.truncate
    rcases x0 with h | h
    · subst h
      simp only [FP.Core.signed, Bool.false_eq_true, if_false]
      exact Int.natCast_nonneg _
    · subst h; cases a <;> simp [FP.Core.signed]
  unfold FP.Core.toI
  have e : ∀ lo hi : Int, FP.Core.toInt lo hi (.fin a c q) = max lo (min hi (FP.Core.truncate a c q)) := fun lo hi => rfl
  rw [e]
  generalize FP.Core.truncate a c q = z at hp
  rw [Int32.lt_iff_toInt_lt, Int32.toInt_zero, Int32.toInt_ofInt_of_le (by omega) (by omega)]
  omega
/-- what a comparison with zero shows -/
theorem pos_N {x : UInt32} (h : fB x (16 * fU)) (h0 : 0 < Op.cmpValue (FP.fcmp x 0) .l) : fN x (16 * fU) := by
  obtain ⟨s, c, q, h1, h2⟩ := h
  have h3 := (cv_gt h1 D_0 .l).mp h0
  have h4 : zI false 0 (-149) = 0 := by unfold zI fZ; rw [Nat.zero_mul]; rfl
  rw [h4] at h3
  refine ⟨s, c, q, h1, Or.inl ?_, h2⟩
  cases s with
  | false => rfl
  | true =>
    have : zI true c q = -((fZ c q : Nat) : Int) := rfl
    omega
