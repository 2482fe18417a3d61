/-! THE ROW'S INVARIANT; values, ways, conflicts on a row; the reference's row read by name -/
def fNm (F : Nat → Int32) (o : Nat) : UInt32 := (fo F o 4).toUInt32
def fFc (F : Nat → Int32) (o : Nat) : UInt32 := (fo F o 3).toUInt32
def fSg (F : Nat → Int32) (o : Nat) : UInt32 := (fo F o 5).toUInt32
def fOk (F : Nat → Int32) (P N : Nat) : Prop := (F 0 = nI P) ∧
  (P ≤ 6) ∧
  (F 1 = nI N) ∧
  (N ≤ 40) ∧
  (∀ o, o < N → ∃ p, p < P ∧ fo F o 0 = nI p) ∧
  (∀ o, o < N → ∃ w, w < 16 ∧ fo F o 1 = nI w) ∧
  (∀ o, o < N → fo F o 2 = -5 ∨ ∃ u, u < 16 ∧ fo F o 2 = nI u) ∧
  (∀ o, o < N → fFrom (fo F o 3) 3296329728 1148846080 = true) ∧
  (∀ o, o < N → fFrom (fo F o 4) 3296329728 1148846080 = true) ∧
  (∀ o, o < N → fo F o 6 = 0 ∨ fo F o 6 = 1) ∧
  (∀ o, o < N → fB (fSg F o) (16 * fU)) ∧
  (∀ o, o < N → fo F o 6 = 1 → fN (fSg F o) (16 * fU)) ∧
  (∀ p, p < P → fIn (F (6 + p)) 1 5 = true) ∧
  (fFrom (F 5) 0 1120403456 = true)
theorem fOk.hP {F : Nat → Int32} {P N : Nat} (h : fOk F P N) : F 0 = nI P := h.1
theorem fOk.hP6 {F : Nat → Int32} {P N : Nat} (h : fOk F P N) : P ≤ 6 := h.2.1
theorem fOk.hN {F : Nat → Int32} {P N : Nat} (h : fOk F P N) : F 1 = nI N := h.2.2.1
theorem fOk.hN2 {F : Nat → Int32} {P N : Nat} (h : fOk F P N) : N ≤ 40 := h.2.2.2.1
theorem fOk.who {F : Nat → Int32} {P N : Nat} (h : fOk F P N) : ∀ o, o < N → ∃ p, p < P ∧ fo F o 0 = nI p := h.2.2.2.2.1
theorem fOk.word {F : Nat → Int32} {P N : Nat} (h : fOk F P N) : ∀ o, o < N → ∃ w, w < 16 ∧ fo F o 1 = nI w := h.2.2.2.2.2.1
theorem fOk.link {F : Nat → Int32} {P N : Nat} (h : fOk F P N) : ∀ o, o < N → fo F o 2 = -5 ∨ ∃ u, u < 16 ∧ fo F o 2 = nI u := h.2.2.2.2.2.2.1
theorem fOk.fac {F : Nat → Int32} {P N : Nat} (h : fOk F P N) : ∀ o, o < N → fFrom (fo F o 3) 3296329728 1148846080 = true := h.2.2.2.2.2.2.2.1
theorem fOk.num {F : Nat → Int32} {P N : Nat} (h : fOk F P N) : ∀ o, o < N → fFrom (fo F o 4) 3296329728 1148846080 = true := h.2.2.2.2.2.2.2.2.1
theorem fOk.mark {F : Nat → Int32} {P N : Nat} (h : fOk F P N) : ∀ o, o < N → fo F o 6 = 0 ∨ fo F o 6 = 1 := h.2.2.2.2.2.2.2.2.2.1
theorem fOk.str {F : Nat → Int32} {P N : Nat} (h : fOk F P N) : ∀ o, o < N → fB (fSg F o) (16 * fU) := h.2.2.2.2.2.2.2.2.2.2.1
theorem fOk.strH {F : Nat → Int32} {P N : Nat} (h : fOk F P N) : ∀ o, o < N → fo F o 6 = 1 → fN (fSg F o) (16 * fU) := h.2.2.2.2.2.2.2.2.2.2.2.1
theorem fOk.rank {F : Nat → Int32} {P N : Nat} (h : fOk F P N) : ∀ p, p < P → fIn (F (6 + p)) 1 5 = true := h.2.2.2.2.2.2.2.2.2.2.2.2.1
theorem fOk.tol {F : Nat → Int32} {P N : Nat} (h : fOk F P N) : fFrom (F 5) 0 1120403456 = true := h.2.2.2.2.2.2.2.2.2.2.2.2.2
theorem fRe_n32 {x : UInt32} (h : vf_n32 x) : fRe x.toInt32 = true := by
  rw [fRe_iff]
  exact h
theorem fRe_B {b : Int32} {V : Nat} (h : fB b.toUInt32 V) : fRe b = true := fRe_iff.mpr h.n32
theorem fFrom_re {b : Int32} {lo hi : UInt32} (h : fFrom b lo hi = true) : fRe b = true := by
  unfold fFrom at h
  rw [Bool.and_eq_true] at h
  exact h.1
theorem fFrom_B {b : Int32} (h : fFrom b 3296329728 1148846080 = true) : fB b.toUInt32 (1000 * fU) := by
  unfold fFrom at h
  rw [Bool.and_eq_true] at h
  exact fB_num h.2
theorem fFrom_S {b : Int32} (h : fFrom b 1036831949 1092616192 = true) : fN b.toUInt32 (10 * fU) := by
  unfold fFrom at h
  rw [Bool.and_eq_true] at h
  exact fN_str h.2
section FOk
variable {F : Nat → Int32} {P N : Nat}
theorem fOk.who6 (ok : fOk F P N) : ∀ o, o < N → ∃ p, p < 6 ∧ fo F o 0 = nI p := fun o h => by
  obtain ⟨p, h1, h2⟩ := ok.who o h
  exact ⟨p, Nat.lt_of_lt_of_le h1 ok.hP6, h2⟩
theorem fOk.re3 (ok : fOk F P N) {o : Nat} (h : o < N) : fRe (fo F o 3) = true := fFrom_re (ok.fac o h)
theorem fOk.re4 (ok : fOk F P N) {o : Nat} (h : o < N) : fRe (fo F o 4) = true := fFrom_re (ok.num o h)
theorem fOk.re5 (ok : fOk F P N) {o : Nat} (h : o < N) : fRe (fo F o 5) = true := fRe_B (ok.str o h)
theorem fOk.bF (ok : fOk F P N) {o : Nat} (h : o < N) : fB (fFc F o) (1000 * fU) := fFrom_B (ok.fac o h)
theorem fOk.bN (ok : fOk F P N) {o : Nat} (h : o < N) : fB (fNm F o) (1000 * fU) := fFrom_B (ok.num o h)
end FOk
/-- where the ruling order of a word links to; so many links on; whether they come to a word; how many they are -/
def fLk (F : Nat → Int32) (N : Nat) (w : Int32) : Int32 := match fRul F w N with
  | none => -5
  | some r => fo F r 2
def fIt (F : Nat → Int32) (N : Nat) (w : Int32) : Nat → Int32
  | 0 => w
  | k + 1 => fLk F N (fIt F N w k)
def fCm (F : Nat → Int32) (N : Nat) (to : Int32) : Nat → Int32 → Bool
  | 0, _ => false
  | n + 1, w => if fLk F N w = -5 then false else if fLk F N w = to then true else fCm F N to n (fLk F N w)
def fLy (F : Nat → Int32) (N : Nat) : Nat → Int32 → Option Nat
  | 0, _ => none
  | n + 1, w => if fLk F N w = -5 then some 0 else (fLy F N n (fLk F N w)).map (· + 1)
/-- values -/
def fByR (F : Nat → Int32) (o : Nat) (v : UInt32) : UInt32 := FP.fadd (FP.fmul v (fFc F o)) (fNm F o)
def fBy (F : Nat → Int32) (o : Nat) (v : UInt32) : Option UInt32 := if fRng (fByR F o v) 3463342888 1315859240 then some (fByR F o v) else none
def fVl (F : Nat → Int32) (N : Nat) : Nat → Int32 → Option UInt32
  | 0, _ => none
  | n + 1, w => match fRul F w N with
    | none => none
    | some r => if fo F r 2 = -5 then some (fNm F r) else (fVl F N n (fo F r 2)).bind (fBy F r)
def fVo (F : Nat → Int32) (N n : Nat) (o : Nat) : Option UInt32 := if fo F o 2 = -5 then some (fNm F o) else (fVl F N n (fo F o 2)).bind (fBy F o)
theorem fVl_s {F : Nat → Int32} {N n : Nat} {w : Int32} : fVl F N (n + 1) w = (fRul F w N).bind (fVo F N n) := by
  unfold fVl fVo
  cases fRul F w N <;> rfl
def fAb (d : UInt32) : UInt32 := if Op.cmpValue (FP.fcmp d 0) .g < 0 then FP.fneg d else d
def fDf (F : Nat → Int32) : Option UInt32 → Option UInt32 → Bool
  | none, none => false
  | some x, some y => decide (0 < Op.cmpValue (FP.fcmp (fAb (FP.fsub x y)) (F 5).toUInt32) .l)
  | _, _ => true
/-- the last order below n that is against order r -/
def fAg (F : Nat → Int32) (N : Nat) (w : Int32) (r : Nat) (o : Nat) : Bool := fHf F w o && !decide (fo F o 0 = fo F r 0) && decide (fRk F o = fRk F r) && fDf F (fVo F N 17 r) (fVo F N 17 o)
def fLast (q : Nat → Bool) : Nat → Option Nat
  | 0 => none
  | n + 1 => if q n then some n else fLast q n
def fCf (F : Nat → Int32) (N : Nat) (w : Int32) : Option Nat := match fRul F w N with
  | none => none
  | some r => fLast (fAg F N w r) N
theorem fLast_lt {q : Nat → Bool} : ∀ {n b : Nat}, fLast q n = some b → b < n
  | n + 1, b, h => by
    unfold fLast at h
    split at h
    · cases h; exact Nat.lt_succ_self _
    · exact Nat.lt_succ_of_lt (fLast_lt h)
theorem fTop_eq (F : Nat → Int32) (w : Int32) : ∀ n, fTop F w n = fLast (fHf F w) n
  | 0 => rfl
  | n + 1 => by unfold fTop fLast; rw [fTop_eq F w n]
/-- what is known of a value: it is bounded -/
def fVb (v : UInt32) : Prop := fB v (2 ^ 41 * fU)
theorem fVo_b {F : Nat → Int32} {P N : Nat} (ok : fOk F P N) {n o : Nat} (ho : o < N) {v : UInt32} (h : fVo F N n o = some v) : fB v (1000000000 * fU) := by
  unfold fVo at h
  split at h
  · cases h
    exact (ok.bN ho).mono (Nat.mul_le_mul_right _ (by decide))
  · cases hv : fVl F N n (fo F o 2) with
    | none => rw [hv] at h; cases h
    | some u =>
      rw [hv] at h
      have h : fBy F o u = some v := h
      unfold fBy at h
      split at h
      · rename_i hr
        cases h
        exact fB_val hr
      · cases h
theorem fVl_b {F : Nat → Int32} {P N : Nat} (ok : fOk F P N) {n : Nat} {w : Int32} {v : UInt32} (h : fVl F N n w = some v) : fB v (1000000000 * fU) := by
  cases n with
  | zero => cases h
  | succ n =>
    rw [fVl_s] at h
    cases hr : fRul F w N with
    | none => rw [hr] at h; cases h
    | some r =>
      rw [hr] at h
      exact fVo_b ok (fRul_lt hr) h
theorem fB_41 {v : UInt32} (h : fB v (1000000000 * fU)) : fVb v := h.mono (by unfold fU; decide +kernel)
theorem by_ok {F : Nat → Int32} {P N : Nat} (ok : fOk F P N) {o : Nat} (ho : o < N) {v : UInt32} (hv : fB v (1000000000 * fU)) : vf_n32 (FP.fmul v (fFc F o)) ∧ vf_n32 (fByR F o v) ∧ fVb (fByR F o v) := by
  have h1 := by_mul hv (ok.bF ho)
  have h2 := by_add h1 (ok.bN ho)
  exact ⟨h1.n32, h2.n32, h2⟩
theorem fBy_some {F : Nat → Int32} {o : Nat} {v : UInt32} : (fBy F o v).isSome = fRng (fByR F o v) 3463342888 1315859240 := by
  unfold fBy
  cases fRng (fByR F o v) 3463342888 1315859240 <;> rfl
theorem fBy_v {F : Nat → Int32} {o : Nat} {v x : UInt32} (h : fBy F o v = some x) : x = fByR F o v := by
  unfold fBy at h
  split at h
  · cases h; rfl
  · cases h
theorem fVl_ly {F : Nat → Int32} {N : Nat} : ∀ {n : Nat} {w : Int32}, fLy F N n w = none → fVl F N n w = none
  | 0, w, _ => rfl
  | n + 1, w, h => by
    unfold fLy at h
    unfold fVl
    cases hr : fRul F w N with
    | none => rfl
    | some r =>
      have hl : fLk F N w = fo F r 2 := by unfold fLk; rw [hr]
      rw [hl] at h
      dsimp only
      split at h
      · cases h
      · rename_i h5
        rw [if_neg h5]
        cases hy : fLy F N n (fo F r 2) with
        | none => rw [fVl_ly hy]; rfl
        | some L => rw [hy] at h; cases h
theorem fIt_s {F : Nat → Int32} {N : Nat} {w : Int32} (k : Nat) : fIt F N w (k + 1) = fLk F N (fIt F N w k) := rfl
theorem fLk_n {F : Nat → Int32} {N : Nat} {w : Int32} (h : fRul F w N = none) : fLk F N w = -5 := by unfold fLk; rw [h]
theorem fLk_r {F : Nat → Int32} {N r : Nat} {w : Int32} (h : fRul F w N = some r) : fLk F N w = fo F r 2 := by unfold fLk; rw [h]
/-- the way at its k-th word -/
theorem fLy_at {F : Nat → Int32} {N : Nat} {w : Int32} {k : Nat} (hk : k < 17) (h : fLy F N 17 w = (fLy F N (17 - k) (fIt F N w k)).map (· + k)) :
    (fLk F N (fIt F N w k) = -5 → fLy F N 17 w = some k) ∧ (fLk F N (fIt F N w k) ≠ -5 → fLy F N 17 w = (fLy F N (17 - (k + 1)) (fIt F N w (k + 1))).map (· + (k + 1))) := by
  have e : 17 - k = (17 - (k + 1)) + 1 := by omega
  rw [e] at h
  constructor
  · intro h5
    rw [h]
    unfold fLy
    rw [if_pos h5]
    simp
  · intro h5
    rw [h]
    conv => lhs; unfold fLy
    rw [if_neg h5, fIt_s]
    cases fLy F N (17 - (k + 1)) (fLk F N (fIt F N w k)) with
    | none => rfl
    | some L => simp; omega
theorem fLy_lt {F : Nat → Int32} {N : Nat} : ∀ {n : Nat} {w : Int32} {L : Nat}, fLy F N n w = some L → L < n ∧ fLk F N (fIt F N w L) = -5 ∧ ∀ k, k < L → fLk F N (fIt F N w k) ≠ -5
  | n + 1, w, L, h => by
    unfold fLy at h
    split at h
    · rename_i h5
      cases h
      exact ⟨Nat.succ_pos _, h5, fun k hk => absurd hk (Nat.not_lt_zero _)⟩
    · rename_i h5
      cases hy : fLy F N n (fLk F N w) with
      | none => rw [hy] at h; cases h
      | some M =>
        rw [hy] at h
        have e : M + 1 = L := Option.some.inj h
        subst e
        obtain ⟨h1, h2, h3⟩ := fLy_lt hy
        have hsh : ∀ k, fIt F N (fLk F N w) k = fIt F N w (k + 1) := by
          intro k
          induction k with
          | zero => rfl
          | succ k ih => rw [fIt_s, ih, ← fIt_s]
        refine ⟨by omega, by rw [← hsh]; exact h2, fun k hk => ?_⟩
        cases k with
        | zero => exact h5
        | succ k => rw [← hsh]; exact h3 k (by omega)
/-- the value at the k-th word of the way -/
def fWv (F : Nat → Int32) (N : Nat) (w : Int32) (k : Nat) : Option UInt32 := fVl F N (17 - k) (fIt F N w k)
theorem fWv_s {F : Nat → Int32} {N : Nat} {w : Int32} {L k r : Nat} (h : fLy F N 17 w = some L) (hk : k < L) (hr : fRul F (fIt F N w k) N = some r) : fWv F N w k = (fWv F N w (k + 1)).bind (fBy F r) := by
  obtain ⟨h1, h2, h3⟩ := fLy_lt h
  have h5 := h3 k hk
  unfold fWv
  have e : 17 - k = (17 - (k + 1)) + 1 := by omega
  rw [e]
  conv => lhs; unfold fVl
  rw [hr]
  dsimp only
  rw [fLk_r hr] at h5
  rw [if_neg h5, fIt_s, fLk_r hr]
theorem fWv_e {F : Nat → Int32} {N : Nat} {w : Int32} {L : Nat} (h : fLy F N 17 w = some L) : fWv F N w L = (fRul F (fIt F N w L) N).map (fNm F) := by
  obtain ⟨h1, h2, h3⟩ := fLy_lt h
  unfold fWv
  have e : 17 - L = (17 - (L + 1)) + 1 := by omega
  rw [e]
  unfold fVl
  cases hr : fRul F (fIt F N w L) N with
  | none => rfl
  | some r =>
    rw [fLk_r hr] at h2
    dsimp only
    rw [if_pos h2]
    rfl
theorem fWv_up {F : Nat → Int32} {N : Nat} {w : Int32} {L : Nat} (h : fLy F N 17 w = some L) : ∀ (j k : Nat), k + j ≤ L → fWv F N w (k + j) = none → fWv F N w k = none
  | 0, k, _, hn => hn
  | j + 1, k, hk, hn => by
    have h1 := fWv_up h j (k + 1) (by omega) (by rw [show k + 1 + j = k + (j + 1) by omega]; exact hn)
    obtain ⟨-, -, h3⟩ := fLy_lt h
    cases hr : fRul F (fIt F N w k) N with
    | none => exact absurd (fLk_n hr) (h3 k (by omega))
    | some r => rw [fWv_s h (by omega) hr, h1]; rfl
theorem fWv_r {F : Nat → Int32} {N : Nat} {w : Int32} {L k : Nat} (h : fLy F N 17 w = some L) (hk : k < L) : ∃ r, fRul F (fIt F N w k) N = some r ∧ r < N := by
  obtain ⟨-, -, h3⟩ := fLy_lt h
  cases hr : fRul F (fIt F N w k) N with
  | none => exact absurd (fLk_n hr) (h3 k hk)
  | some r => exact ⟨r, rfl, fRul_lt hr⟩
/-- the reference's numbers but for some -/
def tQ (X : List Nat) (V V' : tV) : Prop := (∀ k, k ∉ X → V'.1 k = V.1 k ∧ V'.2.1 k = V.2.1 k) ∧ (15 ∉ X → V'.2.2 = V.2.2)
theorem tQ.rf {X : List Nat} {V : tV} : tQ X V V := ⟨fun _ _ => ⟨rfl, rfl⟩, fun _ => rfl⟩
theorem tQ.trans {X Y : List Nat} {V V1 V2 : tV} (h : tQ X V V1) (h2 : tQ Y V1 V2) (hY : ∀ k ∈ Y, k ∈ X) : tQ X V V2 :=
  ⟨fun k hk => ⟨((h2.1 k (fun z => hk (hY k z))).1).trans (h.1 k hk).1, ((h2.1 k (fun z => hk (hY k z))).2).trans (h.1 k hk).2⟩, fun hk => (h2.2 (fun z => hk (hY _ z))).trans (h.2 hk)⟩
theorem tQ.mono {X Y : List Nat} {V V1 : tV} (h : tQ X V V1) (hY : ∀ k ∈ X, k ∈ Y) : tQ Y V V1 := tQ.trans tQ.rf h hY
theorem tQ.put {X : List Nat} {V V1 : tV} {k : Nat} {x : Int32} (h : tQ X V V1) (hk : k ∈ X) : tQ X V (upd V1.1 k x, V1.2) :=
  ⟨fun j hj => ⟨(if_neg (fun z : j = k => hj (z ▸ hk))).trans (h.1 j hj).1, (h.1 j hj).2⟩, h.2⟩
theorem tQ.ast {X : List Nat} {V V1 : tV} {k : Nat} {g : Nat → Int32} (h : tQ X V V1) (hk : k ∈ X) : tQ X V (V1.1, va_up V1.2.1 k g, V1.2.2) :=
  ⟨fun j hj => ⟨(h.1 j hj).1, (if_neg (fun z : j = k => hj (z ▸ hk))).trans (h.1 j hj).2⟩, h.2⟩
theorem tQ.row {X : List Nat} {V V1 : tV} {F : Nat → Int32} (h : tQ X V V1) (hF : V.2.1 1 = F) (hk : 1 ∉ X) : V1.2.1 1 = F := ((h.1 1 hk).2).trans hF
theorem tQ.fld {X : List Nat} {V V1 : tV} (h : tQ X V V1) {k : Nat} (hk : k ∉ X) : V1.1 k = V.1 k := (h.1 k hk).1
theorem tQ.arr {X : List Nat} {V V1 : tV} (h : tQ X V V1) {k : Nat} (hk : k ∉ X) : V1.2.1 k = V.2.1 k := (h.1 k hk).2
section TRow2
variable {p : Program} {l : Launch} {e : Env} {R : Room} {s : State} {m : MethodId} {args : Array Value} {below : List Frame} {meth : Method} {c : Code} {H : Heap} {locs : List Loc} {cells slots : Nat} {Q : State → Prop}
variable {cc : ByteArray} {pc nL : Nat} {ls : Array Slot} {rest : List Value} {K : gK} {G0 : gG} {A : Nat → Nat} {V : tV}
/-- the row read by name -/
theorem t_aldF (M : gM K p s m args c cc nL RX2) (hA : tInj A) {F : Nat → Int32} {k0 : Nat} (hF : V.2.1 k0 = F) (hR : gR K (tG K G0 A V) H) (hk : k0 ∈ tArr) {i : Int32} (j : Nat) (hi : i = nI j) (hj : j < tLen k0) (hdg : decode cc pc = .ok (.iaload, 1))
    (kk : W p l e R s m args below meth c H locs cells slots Q (F0 m (pc + 1) ls (.int (F j) :: rest))) : W p l e R s m args below meth c H locs cells slots Q (F0 m pc ls (.int i :: .ref (A k0) :: rest)) := by
  subst hF
  exact t_ald M hA hR k0 hk j hi hj hdg kk
/-- a place of which the number is known -/
theorem t_aldE (M : gM K p s m args c cc nL RX2) (hA : tInj A) {k0 j : Nat} {x : Int32} (hv : V.2.1 k0 j = x) (hR : gR K (tG K G0 A V) H) (hk : k0 ∈ tArr) {i : Int32} (hi : i = nI j) (hj : j < tLen k0) (hdg : decode cc pc = .ok (.iaload, 1))
    (kk : W p l e R s m args below meth c H locs cells slots Q (F0 m (pc + 1) ls (.int x :: rest))) : W p l e R s m args below meth c H locs cells slots Q (F0 m pc ls (.int i :: .ref (A k0) :: rest)) := by
  subst hv
  exact t_ald M hA hR k0 hk j hi hj hdg kk
/-- writes, by what is known behind them -/
theorem t_putQ (M : gM K p s m args c cc nL RX2) (hA : tInj A) (hR : gR K (tG K G0 A V) H) (hS : va_S (gA K) s.heap H locs) {index : Nat} (k : Nat) (hk : k ∈ tSc) {x : Int32} (hlink : (Cond.fieldLink RX2 index RX2 (TX2 k).2.1 (TX2 k).2.2.1) ∈ lw_all) (hT : (TX2 k).1 = RX2 ∧ (TX2 k).2.2.2 = false) (hn : narrow (tyX2 k) (.int x) = .int x) (hf : fits (tyX2 k) (.int x) = true) (hdg : decode cc pc = .ok (.putfield index, 3))
    (kk : ∀ (V' : tV) (H1 : Heap) (locs1 : List Loc), tQ [k] V V' → V'.1 k = x → V'.2 = V.2 → gR K (tG K G0 A V') H1 → va_S (gA K) s.heap H1 locs1 → W p l e R s m args below meth c H1 locs1 cells slots Q (F0 m (pc + 3) ls rest)) : W p l e R s m args below meth c H locs cells slots Q (F0 m pc ls (.int x :: .ref (A 0) :: rest)) :=
  t_put M hA hR hS k hk hlink hT hn hf hdg (fun H1 locs1 r1 r2 => kk _ H1 locs1 (tQ.put tQ.rf (List.mem_singleton.mpr rfl)) (if_pos rfl) rfl r1 r2)
theorem t_astQ (M : gM K p s m args c cc nL RX2) (hA : tInj A) (hR : gR K (tG K G0 A V) H) (hS : va_S (gA K) s.heap H locs) (k : Nat) (hk : k ∈ tArr) {F : Nat → Int32} (hF : V.2.1 k = F) {i x : Int32} (j : Nat) (hi : i = nI j) (hj : j < tLen k) (hdg : decode cc pc = .ok (.iastore, 1))
    (kk : ∀ (V' : tV) (H1 : Heap) (locs1 : List Loc), tQ [k] V V' → V'.2.1 k = upd F j x → gR K (tG K G0 A V') H1 → va_S (gA K) s.heap H1 locs1 → W p l e R s m args below meth c H1 locs1 cells slots Q (F0 m (pc + 1) ls rest)) : W p l e R s m args below meth c H locs cells slots Q (F0 m pc ls (.int x :: .int i :: .ref (A k) :: rest)) := by
  subst hF
  exact t_ast M hA hR hS k hk j hi hj hdg (fun H1 locs1 r1 r2 => kk _ H1 locs1 (tQ.ast tQ.rf (List.mem_singleton.mpr rfl)) (if_pos rfl) r1 r2)
/-- a field of which the number is known -/
theorem t_getE (M : gM K p s m args c cc nL RX2) (hA : tInj A) (hR : gR K (tG K G0 A V) H) {index : Nat} (k : Nat) (hk : k ∈ tSc) {x : Int32} (hx : V.1 k = x) (hlink : (Cond.fieldLink RX2 index RX2 (TX2 k).2.1 (TX2 k).2.2.1) ∈ lw_all) (hT : (TX2 k).1 = RX2) (hdg : decode cc pc = .ok (.getfield index, 3))
    (kk : W p l e R s m args below meth c H locs cells slots Q (F0 m (pc + 3) ls (.int x :: rest))) : W p l e R s m args below meth c H locs cells slots Q (F0 m pc ls (.ref (A 0) :: rest)) := by
  subst hx
  have hk16 : k < 16 := by
    unfold tSc at hk
    simp only [List.mem_cons, List.not_mem_nil, or_false] at hk
    omega
  refine t_get M hA hR k hk16 (v := .int (V.1 k)) hlink hT ?_ hdg kk
  unfold tSc at hk
  simp only [List.mem_cons, List.not_mem_nil, or_false] at hk
  rcases hk with h | h | h | h | h | h | h <;> subst h <;> rfl
end TRow2
/-- from bounds -/
theorem fIn_iff {v a b : Int32} : fIn v a b = true ↔ a ≤ v ∧ v ≤ b := by
  unfold fIn
  rw [Bool.and_eq_true, decide_eq_true_iff, decide_eq_true_iff]
theorem fIn_nI {v : Int32} {n : Nat} (h : fIn v 0 (nI n - 1) = true) (hn : n < 1000) : ∃ k, k < n ∧ v = nI k := by
  obtain ⟨h1, h2⟩ := fIn_iff.mp h
  cases n with
  | zero => exact absurd (Int32.le_trans h1 h2) (by decide)
  | succ n =>
    rw [nI_pred] at h2
    obtain ⟨j, hj, rfl⟩ := nI_of (x := v) (Int32.not_lt.mpr h1)
    exact ⟨j, Nat.lt_succ_of_le ((nI_leI hj (by omega)).mp h2), rfl⟩
theorem fIn_of {k n : Nat} (h : k < n) (hn : n < 1000) : fIn (nI k) 0 (nI n - 1) = true := by
  refine fIn_iff.mpr ⟨nI_pos' (by omega), ?_⟩
  cases n with
  | zero => exact absurd h (Nat.not_lt_zero _)
  | succ n =>
    rw [nI_pred]
    exact nI_le (by omega) (by omega)
theorem fIn_w {v : Int32} (h : fIn v 0 15 = true) : ∃ k, k < 16 ∧ v = nI k := fIn_nI (n := 16) h (by decide)
theorem dn_end {j : Nat} (h : nI j - 1 < 0) (hj : j < 1000) : j = 0 := by
  cases j with
  | zero => rfl
  | succ j => rw [nI_pred] at h; exact absurd h (nI_pos (by omega))
theorem dn_not {j : Nat} (h : ¬ nI j - 1 < 0) : ∃ i, j = i + 1 := by
  cases j with
  | zero => exact absurd (by decide) h
  | succ j => exact ⟨j, rfl⟩
theorem dn_dec (a : Int32) : a + Int32.ofInt (-1) = a - 1 := by
  rw [Int32.sub_eq_add_neg]; rfl
theorem lt_of_not {j n : Nat} (h : ¬ nI n ≤ nI j) (hj : j < 2 ^ 31) : j < n := by
  rcases Nat.lt_or_ge j n with q | q
  · exact q
  · exact absurd (nI_le q hj) h
theorem eq_of_ge {j n : Nat} (h : nI n ≤ nI j) (hj : j ≤ n) (hn : n < 2 ^ 31) : j = n := by
  have := (nI_leI hn (by omega)).mp h
  omega
theorem cm_0 {F : Nat → Int32} {N j : Nat} {to w : Int32} (hj : j < 16) (e : fCm F N to 16 w = fCm F N to (16 - j) (fIt F N w j)) (h : fLk F N (fIt F N w j) = -5) : fCm F N to 16 w = false := by
  rw [e, show 16 - j = (16 - (j + 1)) + 1 by omega]
  unfold fCm
  rw [if_pos h]
theorem cm_1 {F : Nat → Int32} {N j : Nat} {to w : Int32} (hj : j < 16) (e : fCm F N to 16 w = fCm F N to (16 - j) (fIt F N w j)) (h : fLk F N (fIt F N w j) ≠ -5) (h2 : fLk F N (fIt F N w j) = to) : fCm F N to 16 w = true := by
  rw [e, show 16 - j = (16 - (j + 1)) + 1 by omega]
  unfold fCm
  rw [if_neg h, if_pos h2]
theorem cm_2 {F : Nat → Int32} {N j : Nat} {to w : Int32} (hj : j < 16) (e : fCm F N to 16 w = fCm F N to (16 - j) (fIt F N w j)) (h : fLk F N (fIt F N w j) ≠ -5) (h2 : fLk F N (fIt F N w j) ≠ to) : fCm F N to 16 w = fCm F N to (16 - (j + 1)) (fIt F N w (j + 1)) := by
  rw [e]
  conv => lhs; rw [show 16 - j = (16 - (j + 1)) + 1 by omega]
  conv => lhs; unfold fCm
  rw [if_neg h, if_neg h2]
  rfl
/-- a set of words out of a property -/
def fBits (q : Nat → Bool) (b : Nat → Int32) : Nat → Int32
  | 0 => 0
  | n + 1 => fBits q b n ||| (if q n then 1 <<< (b n &&& 31) else 0)
theorem bits_f {q : Nat → Bool} {b : Nat → Int32} {j : Nat} (h : bI (q j) = 0) : fBits q b j ||| 0 = fBits q b (j + 1) := by
  simp [fBits, bI_0.mp h]
theorem bits_t {q : Nat → Bool} {b : Nat → Int32} {j : Nat} (h : q j = true) : fBits q b j ||| (1 <<< (b j &&& 31)) = fBits q b (j + 1) := by
  simp [fBits, h]
theorem df_ne {F : Nat → Int32} {x y : Option UInt32} (h : ¬ bI x.isSome = bI y.isSome) : fDf F x y = true := by
  cases x <;> cases y <;> first | rfl | exact absurd rfl h
theorem df_no {F : Nat → Int32} {x y : Option UInt32} (h : bI x.isSome = 0) (e : bI x.isSome = bI y.isSome) : fDf F x y = false := by
  cases x with
  | none =>
    cases y with
    | none => rfl
    | some _ => exact absurd e (by decide : ¬ (0 : Int32) = 1)
  | some _ => exact absurd h (by decide : ¬ (1 : Int32) = 0)
theorem df_yes {F : Nat → Int32} {x y : Option UInt32} {a b d : UInt32} (h : ¬ bI x.isSome = 0) (e : bI x.isSome = bI y.isSome) (hx : ∀ v, x = some v → a = v) (hy : ∀ v, y = some v → b = v) (hd : fAb (FP.fsub a b) = d) : fDf F x y = decide (0 < Op.cmpValue (FP.fcmp d (F 5).toUInt32) .l) := by
  subst hd
  cases x with
  | none => exact absurd rfl h
  | some v =>
    cases y with
    | none => exact absurd e (by decide : ¬ (1 : Int32) = 0)
    | some u => rw [hx v rfl, hy u rfl]; rfl
theorem wy_s {g q : Nat → Int32} {j : Nat} {x : Int32} (hg : ∀ i, i < j → g i = q i) (hx : x = q j) : ∀ i, i < j + 1 → upd g j x i = q i := by
  intro i hi
  by_cases e : i = j
  · subst e; exact (if_pos rfl).trans hx
  · exact (if_neg e).trans (hg i (by omega))
theorem isS {α : Type} {x : Option α} (h : ¬ bI x.isSome = 0) : ∃ v, x = some v := by
  cases x with
  | none => exact absurd rfl h
  | some v => exact ⟨v, rfl⟩
theorem isN {α : Type} {x : Option α} (h : bI x.isSome = 0) : x = none := by
  cases x with
  | none => rfl
  | some v => exact absurd h (by decide : ¬ (1 : Int32) = 0)
/-- of a person's orders; of words -/
def fOw (F : Nat → Int32) (N : Nat) (p what : Int32) (o : Nat) : Bool := decide (fo F o 0 = p) && (decide (what = 1) || if what = 2 then fHg F o else decide (oI (fRul F (fo F o 1) N) = nI o))
def fWw (F : Nat → Int32) (N : Nat) (what : Int32) (w : Int32) : Bool := if what = 5 then (fVl F N 17 w).isSome else if what = 6 then (fTop F w N).isSome && !(fVl F N 17 w).isSome else if what = 7 then (fCf F N w).isSome else fCm F N w 16 w
theorem cnt_s {q : Nat → Bool} {j : Nat} : nI (fCnt q 0 j) + bI (q j) = nI (fCnt q 0 (j + 1)) := by
  have h := @cnt_f q 0 j
  have h2 := @cnt_t q 0 j
  rw [Nat.zero_add] at h h2
  by_cases hb : bI (q j) = 0
  · rw [hb]; exact h hb
  · have e : bI (q j) = 1 := bI_1.mpr (bI_n0.mp hb)
    rw [e]; exact h2 hb
theorem fCf_lt {F : Nat → Int32} {N b : Nat} {w : Int32} (h : fCf F N w = some b) : b < N := by
  unfold fCf at h
  cases hr : fRul F w N with
  | none => rw [hr] at h; cases h
  | some r => rw [hr] at h; exact fLast_lt h
