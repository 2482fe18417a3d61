/-! LOOKING THROUGH a stack from its top; what a walk of a state asks of the row -/
def lsL (c : Nat → Bool) : List Nat → Option Nat
  | [] => none
  | o :: L => match lsL c L with
    | some b => some b
    | none => if c o then some o else none
theorem lsL_app (c : Nat → Bool) : ∀ (L : List Nat) (o : Nat), lsL c (L ++ [o]) = if c o then some o else lsL c L
  | [], o => by
    show (match lsL c [] with | some b => some b | none => if c o then some o else none) = _
    rfl
  | x :: L, o => by
    show (match lsL c (L ++ [o]) with | some b => some b | none => if c x then some x else none) = _
    rw [lsL_app c L o]
    by_cases h : c o = true
    · rw [if_pos h, if_pos h]
    · rw [if_neg h, if_neg h]
      rfl
theorem lsL_stk (c : Nat → Bool) (F : Nat → Int32) (w : Int32) : ∀ n, lsL c (fStk F w n) = fLast (fun o => fHf F w o && c o) n
  | 0 => rfl
  | n + 1 => by
    unfold fStk fLast
    by_cases h : fHf F w n = true
    · rw [if_pos h, lsL_app, h, Bool.true_and, lsL_stk c F w n]
    · have h : fHf F w n = false := by simpa using h
      rw [h, Bool.false_and]
      exact lsL_stk c F w n
theorem lsL_take {c : Nat → Bool} {L : List Nat} {k : Nat} (h : k < L.length) : lsL c (L.take (k + 1)) = if c L[k] then some L[k] else lsL c (L.take k) := by
  rw [List.take_succ_eq_append_getElem h, lsL_app]
theorem top_stk (F : Nat → Int32) (w : Int32) : ∀ n, (fTop F w n = none ↔ fStk F w n = []) ∧ ∀ o, fTop F w n = some o → (fStk F w n).getLast? = some o
  | 0 => ⟨⟨fun _ => rfl, fun _ => rfl⟩, fun o h => by cases h⟩
  | n + 1 => by
    unfold fTop fStk
    by_cases h : fHf F w n = true
    · rw [if_pos h, if_pos h]
      exact ⟨⟨fun z => (by cases z), fun z => by simp at z⟩, fun o z => by cases z; simp⟩
    · rw [if_neg h, if_neg h]
      exact top_stk F w n
theorem ha_stk (F : Nat → Int32) (w : Int32) : ∀ (n k : Nat), fHa (fHf F w) n k = (fStk F w n).reverse[k]?
  | 0, k => by simp [fHa, fStk]
  | n + 1, k => by
    unfold fHa fStk
    by_cases h : fHf F w n = true
    · rw [if_pos h, if_pos h, List.reverse_append]
      cases k with
      | zero => rfl
      | succ k => rw [if_neg (by omega), ha_stk F w n]; rfl
    · rw [if_neg h, if_neg h]
      exact ha_stk F w n k
/-- against: by the stack -/
def fAq (F : Nat → Int32) (N r o : Nat) : Bool := !decide (fo F o 0 = fo F r 0) && decide (fRk F o = fRk F r) && fDf F (fVo F N 17 o) (fVo F N 17 r)
theorem ag_stk {F : Nat → Int32} {P N r : Nat} (ok : fOk F P N) (hr : r < N) (w : Int32) : fLast (fAg F N w r) N = lsL (fAq F N r) (fStk F w N) := by
  rw [lsL_stk]
  have h : ∀ n, n ≤ N → fLast (fAg F N w r) n = fLast (fun o => fHf F w o && fAq F N r o) n := by
    intro n
    induction n with
    | zero => intro _; rfl
    | succ n ih =>
      intro hn
      have hq : fAg F N w r n = (fHf F w n && fAq F N r n) := by
        unfold fAg fAq
        rw [df_sym ok (x := fVo F N 17 r) (y := fVo F N 17 n) (fun v hv => fB_30 (fVo_b ok hr hv)) (fun v hv => fB_30 (fVo_b ok (by omega) hv)), Bool.and_assoc, Bool.and_assoc, Bool.and_assoc]
      unfold fLast
      rw [hq, ih (by omega)]
  exact h N (Nat.le_refl _)
theorem hf_w {F : Nat → Int32} {N o w : Nat} {L : List Nat} (hL : L = fStk F (nI w) N) {k : Nat} (hk : k < L.length) (ho : L[k] = o) : o < N ∧ fHf F (nI w) o = true := by
  subst hL
  subst ho
  exact stk_lt (List.getElem_mem hk)
theorem rk_of {F : Nat → Int32} {o p : Nat} (h : fo F o 0 = nI p) (hp : p < 6) : fRk F o = F (6 + p) := by
  unfold fRk
  rw [h, nI_clamp (by omega)]
theorem fRs_some {F : Nat → Int32} : ∀ {L : List Nat} {b : Nat}, fRs F L (some b) ≠ none
  | [], b => fun h => by cases h
  | o :: L, b => by
    show fRs F L (if fBt F o (some b) then some o else some b) ≠ none
    split
    · exact fRs_some
    · exact fRs_some
theorem rul_nil {F : Nat → Int32} {w : Int32} {n : Nat} (h : fRul F w n = none) : fStk F w n = [] := by
  rw [rul_stk] at h
  cases hL : fStk F w n with
  | nil => rfl
  | cons o L =>
    rw [hL] at h
    exact absurd h (fRs_some (L := L) (b := o))
/-- what the recursion through values asks and answers, with n words ahead -/
def vV (l : Launch) (K : gK) (G : gG) (a : Nat) (F : Nat → Int32) (N n : Nat) : Prop := ∀ (ps : List Nat) (w : Nat), ps.length + n = 17 → ps.Nodup → (∀ u ∈ ps, u < 16) → w < 16 → Met l yX1_value_2 (ws_ yX1_value_2 cX1_value_2 4 (Option.some Jvm.ClassFile.FieldType.float)) (gRm (20 + 2 * n) 0 0 (300 + 50 * n)) (gPre K [.ref a, .int (nI w), .int (nI (mS ps))] G) (gQf K (fun r G1 => r = oF (cV F N n ps w) ∧ G1 = G)) 0 0 (gA K)
def vO (l : Launch) (K : gK) (G : gG) (a : Nat) (x : Nat → Nat) (F : Nat → Int32) (N n : Nat) : Prop := ∀ (ps : List Nat) (o : Nat), ps.length + n = 17 → ps.Nodup → (∀ u ∈ ps, u < 16) → o < N → Met l yX1_valueOf (ws_ yX1_valueOf cX1_valueOf 5 (Option.some Jvm.ClassFile.FieldType.float)) (gRm (21 + 2 * n) 0 0 (325 + 50 * n)) (gPre K [.ref a, .ref (x o), .int (nI (mS ps))] G) (gQf K (fun r G1 => r = oF (cO F N n ps o) ∧ G1 = G)) 0 0 (gA K)
theorem cO_3 {F : Nat → Int32} {N n o u : Nat} {ps : List Nat} (h5 : ¬ fo F o 2 = -5) (hu : fo F o 2 = nI u) (hu16 : u < 16) : cO F N n ps o = (cV F N n ps u).bind (fBy F o) := by
  unfold cO
  rw [if_neg h5, hu, zN_nI (by omega)]
/-- going on along the links: one word more; the end; a ring -/
theorem re_s {F : Nat → Int32} {N w u : Nat} {ps : List Nat} (h : ∀ v, v ∈ ps ↔ ∃ i, 1 ≤ i ∧ i ≤ ps.length ∧ fIt F N (nI w) i = nI v ∧ v < 16) (hu : fIt F N (nI w) (ps.length + 1) = nI u) (hu16 : u < 16) : ∀ v, v ∈ u :: ps ↔ ∃ i, 1 ≤ i ∧ i ≤ (u :: ps).length ∧ fIt F N (nI w) i = nI v ∧ v < 16 := by
  intro v
  have hl : (u :: ps).length = ps.length + 1 := rfl
  rw [List.mem_cons, h v]
  constructor
  · rintro (e | ⟨i, h1, h2, h3, h4⟩)
    · rw [e]; exact ⟨ps.length + 1, by omega, by omega, hu, hu16⟩
    · exact ⟨i, h1, by omega, h3, h4⟩
  · rintro ⟨i, h1, h2, h3, h4⟩
    by_cases e : i = ps.length + 1
    · rw [e, hu] at h3
      exact Or.inl ((nI_eq (by omega) (by omega)).mp h3).symm
    · exact Or.inr ⟨i, h1, by omega, h3, h4⟩
theorem re_t {F : Nat → Int32} {N w u : Nat} {ps : List Nat} (h : ∀ i, 1 ≤ i → i ≤ ps.length → ∃ v, v < 16 ∧ fIt F N (nI w) i = nI v) (hu : fIt F N (nI w) (ps.length + 1) = nI u) (hu16 : u < 16) : ∀ i, 1 ≤ i → i ≤ (u :: ps).length → ∃ v, v < 16 ∧ fIt F N (nI w) i = nI v := by
  intro i h1 h2
  have hl : (u :: ps).length = ps.length + 1 := rfl
  by_cases e : i = ps.length + 1
  · rw [e]; exact ⟨u, hu16, hu⟩
  · exact h i h1 (by omega)
theorem re_e {F : Nat → Int32} {P N w : Nat} {ps : List Nat} (ok : fOk F P N) (h1 : ∀ v, v ∈ ps ↔ ∃ i, 1 ≤ i ∧ i ≤ ps.length ∧ fIt F N (nI w) i = nI v ∧ v < 16) (h2 : ∀ i, 1 ≤ i → i ≤ ps.length → ∃ v, v < 16 ∧ fIt F N (nI w) i = nI v) (hle : ps.length ≤ 16) (h5 : fIt F N (nI w) (ps.length + 1) = -5) : ∀ v, v < 16 → (v ∈ ps ↔ fCm F N (nI v) 16 (nI w) = true) := by
  intro v hv
  rw [h1 v, cm_iff]
  constructor
  · rintro ⟨i, g1, g2, g3, -⟩
    refine ⟨i, g1, by omega, g3, fun j k1 k2 => ?_⟩
    obtain ⟨u, hu, e⟩ := h2 j k1 (by omega)
    rw [e]
    exact nI_n5 (by omega)
  · rintro ⟨i, g1, g2, g3, g4⟩
    refine ⟨i, g1, ?_, g3, hv⟩
    rcases Nat.lt_or_ge ps.length i with q | q
    · exact absurd h5 (g4 (ps.length + 1) (by omega) q)
    · exact q
theorem re_r {F : Nat → Int32} {P N w u : Nat} {ps : List Nat} (ok : fOk F P N) (h1 : ∀ v, v ∈ ps ↔ ∃ i, 1 ≤ i ∧ i ≤ ps.length ∧ fIt F N (nI w) i = nI v ∧ v < 16) (h2 : ∀ i, 1 ≤ i → i ≤ ps.length → ∃ v, v < 16 ∧ fIt F N (nI w) i = nI v) (hle : ps.length ≤ 16) (hu : fIt F N (nI w) (ps.length + 1) = nI u) (hin : u ∈ ps) : ∀ v, v < 16 → (v ∈ ps ↔ fCm F N (nI v) 16 (nI w) = true) := by
  intro v hv
  obtain ⟨i0, k1, k2, k3, -⟩ := (h1 u).mp hin
  have hall : ∀ d, ∃ i, 1 ≤ i ∧ i ≤ ps.length ∧ fIt F N (nI w) (d + 1) = fIt F N (nI w) i := by
    intro d
    induction d with
    | zero => exact ⟨1, Nat.le_refl _, by omega, rfl⟩
    | succ d ih =>
      obtain ⟨i, j1, j2, j3⟩ := ih
      have e : fIt F N (nI w) (d + 1 + 1) = fIt F N (nI w) (i + 1) := by rw [fIt_s (d + 1), j3, fIt_s i]
      by_cases c : i = ps.length
      · refine ⟨i0, k1, k2, ?_⟩
        rw [e, c, hu, k3]
      · exact ⟨i + 1, by omega, by omega, e⟩
  rw [h1 v, cm_iff]
  constructor
  · rintro ⟨i, g1, g2, g3, -⟩
    refine ⟨i, g1, by omega, g3, fun j m1 m2 => ?_⟩
    obtain ⟨z, hz, e⟩ := h2 j m1 (by omega)
    rw [e]
    exact nI_n5 (by omega)
  · rintro ⟨i, g1, g2, g3, g4⟩
    obtain ⟨i', j1, j2, j3⟩ := hall (i - 1)
    rw [show i - 1 + 1 = i by omega, g3] at j3
    exact ⟨i', j1, j2, j3.symm, hv⟩
