/-! ARRAYS up to their lengths; the reference's row written -/
theorem arrV_ext {c : ClassId} {n : Nat} {f g : Nat → Value} (h : ∀ i, i < n → f i = g i) : arrV c n f = arrV c n g := by
  unfold arrV
  congr
  funext j
  exact h j.val j.isLt
theorem gR.ext {K : gK} {G : gG} {H : Heap} (hR : gR K G H) {a n : Nat} {cA : ClassId} {f g : Nat → Int32} (ha : G a = some (.inl (.inl (cA, (n, .inl f))))) (hE : a ≠ kE K) (h : ∀ i, i < n → f i = g i) : gR K (oU G a (.inl (.inl (cA, (n, .inl g))))) H := by
  obtain ⟨Rw, h1, h2⟩ := hR
  refine ⟨oU Rw a (.inl (cA, (n, .inl g))), fun b y hb => ?_, h2.upd ha hE⟩
  by_cases e : b = a
  · subst e
    rw [oU_s] at hb
    cases hb
    have := h1 b _ (h2.raw ha)
    refine (show H[b]? = some (vp_cell cA (n, .inl f)) from this).trans (congrArg some ?_)
    exact (show arrV cA n (fun j => .int (f j)) = arrV cA n (fun j => .int (g j)) from arrV_ext (fun i hi => congrArg Value.int (h i hi)))
  · rw [oU_n e] at hb
    exact h1 b y hb
theorem gR.extF {K : gK} {G : gG} {H : Heap} (hR : gR K G H) {a n : Nat} {cA : ClassId} {f g : Nat → UInt32} (ha : G a = some (.inl (.inl (cA, (n, .inr (.inr (.inl f))))))) (hE : a ≠ kE K) (h : ∀ i, i < n → f i = g i) : gR K (oU G a (.inl (.inl (cA, (n, .inr (.inr (.inl g))))))) H := by
  obtain ⟨Rw, h1, h2⟩ := hR
  refine ⟨oU Rw a (.inl (cA, (n, .inr (.inr (.inl g))))), fun b y hb => ?_, h2.upd ha hE⟩
  by_cases e : b = a
  · subst e
    rw [oU_s] at hb
    cases hb
    have := h1 b _ (h2.raw ha)
    refine (show H[b]? = some (vp_cell cA (n, .inr (.inr (.inl f)))) from this).trans (congrArg some ?_)
    exact (show arrV cA n (fun j => .float (f j)) = arrV cA n (fun j => .float (g j)) from arrV_ext (fun i hi => congrArg Value.float (h i hi)))
  · rw [oU_n e] at hb
    exact h1 b y hb
theorem tLen_pos {k : Nat} : 0 < tLen k := by unfold tLen; split <;> decide
/-- an array by another name of its contents -/
theorem tG_ext {K : gK} {G0 : gG} {A : Nat → Nat} {V : tV} {H : Heap} (hA : tInj A) (hR : gR K (tG K G0 A V) H) (k : Nat) (hk : k ∈ tArr) (g : Nat → Int32) (h : ∀ i, i < tLen k → V.2.1 k i = g i) : ∃ V1, gR K (tG K G0 A V1) H ∧ tQ [k] V V1 ∧ V1.2.1 k = g := by
  have h1 := hR.ext (tG_a hA k hk) (hR.neA (tG_a hA k hk) tLen_pos) h
  rw [tG_ar hA hk] at h1
  exact ⟨_, h1, tQ.ast tQ.rf (List.mem_singleton.mpr rfl), if_pos rfl⟩
/-- orders' k-th numbers of a kind replaced below j -/
def fW (F : Nat → Int32) (k : Nat) (q : Nat → Bool) (v : Nat → Int32) (j : Nat) : Nat → Int32 := fun i => if 12 ≤ i ∧ (i - 12) % 7 = k ∧ (i - 12) / 7 < j ∧ q ((i - 12) / 7) = true then v ((i - 12) / 7) else F i
theorem fo_fW {F : Nat → Int32} {k k' o j : Nat} {q : Nat → Bool} {v : Nat → Int32} (hk' : k' < 7) : fo (fW F k q v j) o k' = if k' = k ∧ o < j ∧ q o = true then v o else fo F o k' := by
  unfold fo fW
  have e1 : (12 + 7 * o + k' - 12) % 7 = k' := by omega
  have e2 : (12 + 7 * o + k' - 12) / 7 = o := by omega
  rw [e1, e2]
  by_cases h : k' = k ∧ o < j ∧ q o = true
  · rw [if_pos ⟨by omega, h⟩, if_pos h]
  · rw [if_neg (fun z => h z.2), if_neg h]
theorem fW_lo {F : Nat → Int32} {k i j : Nat} {q : Nat → Bool} {v : Nat → Int32} (h : i < 12) : fW F k q v j i = F i := if_neg (fun z => by omega)
theorem fW_0 {F : Nat → Int32} {k : Nat} {q : Nat → Bool} {v : Nat → Int32} : fW F k q v 0 = F := by
  funext i
  exact if_neg (fun z => absurd z.2.2.1 (Nat.not_lt_zero _))
theorem fW_n {F : Nat → Int32} {k j : Nat} {q : Nat → Bool} {v : Nat → Int32} (h : q j = false) : fW F k q v (j + 1) = fW F k q v j := by
  funext i
  unfold fW
  by_cases e : (i - 12) / 7 = j
  · rw [if_neg (fun z => by rw [e, h] at z; exact absurd z.2.2.2 (by decide)), if_neg (fun z => by rw [e, h] at z; exact absurd z.2.2.2 (by decide))]
  · by_cases c : 12 ≤ i ∧ (i - 12) % 7 = k ∧ (i - 12) / 7 < j ∧ q ((i - 12) / 7) = true
    · rw [if_pos c, if_pos ⟨c.1, c.2.1, by omega, c.2.2.2⟩]
    · rw [if_neg c, if_neg (fun z => c ⟨z.1, z.2.1, by omega, z.2.2.2⟩)]
theorem fW_t {F : Nat → Int32} {k j : Nat} {q : Nat → Bool} {v : Nat → Int32} (hk : k < 7) (h : q j = true) : fW F k q v (j + 1) = upd (fW F k q v j) (12 + 7 * j + k) (v j) := by
  funext i
  unfold upd
  by_cases e : i = 12 + 7 * j + k
  · rw [if_pos e]
    unfold fW
    have e1 : (i - 12) % 7 = k := by omega
    have e2 : (i - 12) / 7 = j := by omega
    rw [e1, e2, if_pos ⟨by omega, rfl, by omega, h⟩]
  · rw [if_neg e]
    unfold fW
    by_cases c : 12 ≤ i ∧ (i - 12) % 7 = k ∧ (i - 12) / 7 < j ∧ q ((i - 12) / 7) = true
    · rw [if_pos c, if_pos ⟨c.1, c.2.1, by omega, c.2.2.2⟩]
    · rw [if_neg c, if_neg (fun z => c ⟨z.1, z.2.1, by omega, z.2.2.2⟩)]
/-- one of an order's numbers -/
theorem fo_up {F : Nat → Int32} {o k o' k' : Nat} {x : Int32} (hk : k < 7) (hk' : k' < 7) : fo (upd F (12 + 7 * o + k) x) o' k' = if o' = o ∧ k' = k then x else fo F o' k' := by
  unfold fo upd
  by_cases h : o' = o ∧ k' = k
  · rw [if_pos h, if_pos (by omega)]
  · rw [if_neg h, if_neg (fun z => h (by omega))]
theorem fo_lo {F : Nat → Int32} {o k i : Nat} {x : Int32} (hi : i < 12) : fo (upd F i x) o k = fo F o k := if_neg (fun z => by omega)
theorem up_lo {F : Nat → Int32} {i j : Nat} {x : Int32} (hi : i ≠ j) : upd F j x i = F i := if_neg hi
theorem up_at {F : Nat → Int32} {j : Nat} {x : Int32} : upd F j x j = x := if_pos rfl
/-- an order nailed -/
def fNl (F : Nat → Int32) (N : Nat) (p w link fac num str : Int32) : Nat → Int32 := upd (upd (upd (upd (upd (upd (upd (upd F (12 + 7 * N + 0) p) (12 + 7 * N + 1) w) (12 + 7 * N + 2) link) (12 + 7 * N + 3) fac) (12 + 7 * N + 4) num) (12 + 7 * N + 5) str) (12 + 7 * N + 6) 1) 1 (nI (N + 1))
def fNr (F : Nat → Int32) (N : Nat) (p w link fac num str : Int32) : Int32 :=
  if !(fIn p 0 (F 0 - 1) && fIn w 0 15 && (decide (link = -5) || fIn link 0 15)) then -1
  else if !(fFrom fac 3296329728 1148846080 && fFrom num 3296329728 1148846080 && fFrom str 1036831949 1092616192 && !decide (link = w)) then -2
  else if fAll F N = 24 ∨ nI N = 40 then -3 else nI N
def fNw (F : Nat → Int32) (N : Nat) (p w link fac num str : Int32) : Nat → Int32 := if fNr F N p w link fac num str < 0 then F else fNl F N p w link fac num str
/-- a storm -/
def fBlw (F : Nat → Int32) (N : Nat) (f : UInt32) (o : Nat) : Int32 := (FP.fsub (fSg F o) (FP.fdiv f (FP.i2f (nI (fCnt (fHf F (fo F o 1)) o (N - o)))))).toInt32
def fFl (F : Nat → Int32) (o : Nat) : Bool := fHg F o && decide (¬ 0 < Op.cmpValue (FP.fcmp (fSg F o) 0) .l)
def fS1 (F : Nat → Int32) (N : Nat) (f : UInt32) : Nat → (Nat → Int32) := fW F 5 (fHg F) (fBlw F N f)
def fS2 (F : Nat → Int32) : Nat → (Nat → Int32) := fW F 6 (fFl F) (fun _ => 0)
def fSn (F : Nat → Int32) (N : Nat) (f : UInt32) : Nat := fCnt (fFl (fS1 F N f N)) 0 N
def fSt (F : Nat → Int32) (N : Nat) (f : UInt32) : Nat → Int32 := upd (upd (fS2 (fS1 F N f N) N) 2 (F 2 + nI (fSn F N f))) 4 (F 4 + 1)
/-- history: what an act makes of it -/
def tB (a : Nat) : Nat := if a = 4 then 3 else a
def tOld (V : tV) (a i : Nat) : Int32 := if a = 4 then V.2.1 5 (i + 292) else V.2.1 5 i
def tAct (V V1 : tV) (F : Nat → Int32) (a : Nat) : Prop := V1.1 6 = nI (tB a + 1) ∧ (∀ i, i < 292 * tB a → V1.2.1 5 i = tOld V a i) ∧ ∀ i, i < 292 → V1.2.1 5 (292 * tB a + i) = F i
theorem ix_m (a j : Nat) : (292 : Int32) * nI a + nI j = nI (292 * a + j) := by
  show nI 292 * nI a + nI j = _
  rw [pk_mul, nI_add]
theorem ix_7 (N : Nat) : (12 : Int32) + 7 * nI N = nI (12 + 7 * N) := by
  show nI 12 + nI 7 * nI N = _
  rw [pk_mul, nI_add]
theorem s1_fo {F : Nat → Int32} {N j o k : Nat} {f : UInt32} (hk : k < 7) (h : k ≠ 5 ∨ j ≤ o) : fo (fS1 F N f j) o k = fo F o k := by
  unfold fS1
  rw [fo_fW hk]
  exact if_neg (fun z => by omega)
theorem s1_hg {F : Nat → Int32} {N j o : Nat} {f : UInt32} : fHg (fS1 F N f j) o = fHg F o := by
  unfold fHg
  rw [s1_fo (by decide) (Or.inl (by decide))]
theorem s1_hf {F : Nat → Int32} {N j : Nat} {f : UInt32} {w : Int32} : fHf (fS1 F N f j) w = fHf F w := by
  funext o
  unfold fHf
  rw [s1_hg, s1_fo (by decide) (Or.inl (by decide))]
theorem s2_fo {F : Nat → Int32} {j o k : Nat} (hk : k < 7) (h : k ≠ 6 ∨ j ≤ o) : fo (fS2 F j) o k = fo F o k := by
  unfold fS2
  rw [fo_fW hk]
  exact if_neg (fun z => by omega)
theorem s2_hg {F : Nat → Int32} {j : Nat} : fHg (fS2 F j) j = fHg F j := by
  unfold fHg
  rw [s2_fo (by decide) (Or.inr (Nat.le_refl _))]
theorem cnt_pos {q : Nat → Bool} {a : Nat} (h : q a = true) : ∀ n, 0 < n → 1 ≤ fCnt q a n
  | n + 1, _ => by
    cases n with
    | zero => unfold fCnt; rw [Nat.add_zero, h]; exact Nat.le_add_left _ _
    | succ n =>
      have := cnt_pos h (n + 1) (Nat.succ_pos _)
      unfold fCnt
      omega
theorem hf_own {F : Nat → Int32} {o : Nat} (h : fHg F o = true) : fHf F (fo F o 1) o = true := by
  unfold fHf
  rw [h, decide_eq_true rfl]
  rfl
theorem blw_ok {F : Nat → Int32} {P N o : Nat} {f : UInt32} (ok : fOk F P N) (hf : fN f (10 * fU)) (ho : o < N) (h : fHg F o = true) : vf_n32 (FP.fdiv f (FP.i2f (nI (fCnt (fHf F (fo F o 1)) o (N - o))))) ∧ vf_n32 (FP.fsub (fSg F o) (FP.fdiv f (FP.i2f (nI (fCnt (fHf F (fo F o 1)) o (N - o)))))) ∧ fB (fBlw F N f o).toUInt32 (16 * fU) := by
  have h1 := cnt_pos (hf_own h) (N - o) (by omega)
  have h2 := fCnt_le (fHf F (fo F o 1)) o (N - o)
  have h3 := ok.hN2
  obtain ⟨q1, q2⟩ := storm_ok (ok.strH o ho (of_decide_eq_true h)) hf h1 (by omega)
  exact ⟨q1.n32, q2.n32, q2⟩
theorem s1_B {F : Nat → Int32} {P N o j : Nat} {f : UInt32} (ok : fOk F P N) (hf : fN f (10 * fU)) (ho : o < N) : fB (fSg (fS1 F N f j) o) (16 * fU) := by
  unfold fSg fS1
  rw [fo_fW (by decide)]
  split
  · rename_i h
    exact (blw_ok ok hf ho h.2.2).2.2
  · exact ok.str o ho
theorem fl_t {F : Nat → Int32} {o : Nat} (h : fHg F o = true) (h2 : ¬ 0 < Op.cmpValue (FP.fcmp (fSg F o) 0) .l) : fFl F o = true := by
  unfold fFl
  rw [h, decide_eq_true h2]
  rfl
theorem fl_f {F : Nat → Int32} {o : Nat} (h2 : 0 < Op.cmpValue (FP.fcmp (fSg F o) 0) .l) : fFl F o = false := by
  unfold fFl
  rw [decide_eq_false (not_not_intro h2), Bool.and_false]
theorem fl_h {F : Nat → Int32} {o : Nat} (h : fHg F o = false) : fFl F o = false := by
  unfold fFl
  rw [h]
  rfl
theorem cnt_0 {q : Nat → Bool} {j : Nat} (h : q j = false) : fCnt q 0 (j + 1) = fCnt q 0 j := by
  conv => lhs; unfold fCnt
  rw [Nat.zero_add, h]
  rfl
theorem cnt_1 {q : Nat → Bool} {j : Nat} (h : q j = true) : fCnt q 0 (j + 1) = fCnt q 0 j + 1 := by
  conv => lhs; unfold fCnt
  rw [Nat.zero_add, h]
  rfl
