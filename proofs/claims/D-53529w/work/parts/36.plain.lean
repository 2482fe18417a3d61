/-! PLAIN LAWS between the stacks and the row: places, counts, ways, rings, values, differences -/
theorem cnt_add (q : Nat → Bool) (a : Nat) : ∀ (m n : Nat), fCnt q a (m + n) = fCnt q a m + fCnt q (a + m) n
  | m, 0 => rfl
  | m, n + 1 => by
    show fCnt q a (m + n) + _ = fCnt q a m + (fCnt q (a + m) n + _)
    rw [cnt_add q a m n, Nat.add_assoc, show m.add n = m + n from rfl, ← Nat.add_assoc a m n]
theorem stk_at {F : Nat → Int32} {w : Int32} {o : Nat} (h : fHf F w o = true) : ∀ {n : Nat}, o < n → (fStk F w n)[fCnt (fHf F w) 0 o]? = some o
  | n + 1, hn => by
    unfold fStk
    by_cases e : o = n
    · subst e
      rw [if_pos h, ← stk_len F w o, List.getElem?_append_right (Nat.le_refl _), Nat.sub_self]
      rfl
    · have ih := stk_at h (n := n) (by omega)
      split
      · rw [List.getElem?_append_left (List.getElem?_eq_some_iff.mp ih).1]; exact ih
      · exact ih
/-- strictly rising -/
theorem stk_up {F : Nat → Int32} {w : Int32} : ∀ (n : Nat), List.Pairwise (· < ·) (fStk F w n)
  | 0 => List.Pairwise.nil
  | n + 1 => by
    unfold fStk
    split
    · refine List.pairwise_append.mpr ⟨stk_up n, List.pairwise_singleton _ _, fun a ha b hb => ?_⟩
      rw [List.mem_singleton] at hb
      subst hb
      exact (stk_lt ha).1
    · exact stk_up n
theorem stk_inj {F : Nat → Int32} {w : Int32} {n i j : Nat} (hi : i < (fStk F w n).length) (hj : j < (fStk F w n).length) (h : (fStk F w n)[i] = (fStk F w n)[j]) : i = j := by
  have hp := List.pairwise_iff_getElem.mp (stk_up (F := F) (w := w) n)
  rcases Nat.lt_trichotomy i j with c | c | c
  · have := hp i j hi hj c; omega
  · exact c
  · have := hp j i hj hi c; omega
/-- marks: how many hang -/
def fHn (F : Nat → Int32) (N : Nat) : Nat → Nat
  | 0 => 0
  | m + 1 => fHn F N m + (fStk F (nI m) N).length
theorem hn_s {F : Nat → Int32} {n w : Nat} (hw : fo F n 1 = nI w) (hw16 : w < 16) : ∀ (m : Nat), m ≤ 16 → fHn F (n + 1) m = fHn F n m + if fHg F n = true ∧ w < m then 1 else 0
  | 0, _ => by
    rw [if_neg (fun z => absurd z.2 (Nat.not_lt_zero _))]
    rfl
  | m + 1, hm => by
    show fHn F (n + 1) m + (fStk F (nI m) (n + 1)).length = fHn F n m + (fStk F (nI m) n).length + _
    rw [hn_s hw hw16 m (by omega)]
    have hq : fHf F (nI m) n = (fHg F n && decide (w = m)) := by
      unfold fHf
      rw [hw]
      congr 1
      exact decide_eq_decide.mpr (nI_eq (by omega) (by omega))
    rw [show fStk F (nI m) (n + 1) = if fHf F (nI m) n then fStk F (nI m) n ++ [n] else fStk F (nI m) n from rfl, hq]
    by_cases h1 : fHg F n = true
    · by_cases h2 : w = m
      · subst h2
        rw [h1, decide_eq_true rfl]
        simp
        omega
      · rw [h1, decide_eq_false h2]
        by_cases h3 : w < m
        · simp [h3, Nat.lt_succ_of_lt h3]; omega
        · simp [h3, show ¬ w < m + 1 by omega]
    · have h1 : fHg F n = false := by simpa using h1
      rw [h1]
      simp
theorem hn_cnt {F : Nat → Int32} : ∀ (n : Nat), (∀ o, o < n → ∃ w, w < 16 ∧ fo F o 1 = nI w) → fHn F n 16 = fCnt (fHg F) 0 n
  | 0, _ => by
    have h : ∀ m, fHn F 0 m = 0 := fun m => by
      induction m with
      | zero => rfl
      | succ m ih => show fHn F 0 m + 0 = 0; rw [ih]
    exact h 16
  | n + 1, hw => by
    obtain ⟨w, h1, h2⟩ := hw n (Nat.lt_succ_self _)
    rw [hn_s h2 h1 16 (Nat.le_refl _), hn_cnt n (fun o ho => hw o (by omega))]
    by_cases h : fHg F n = true
    · rw [if_pos ⟨h, h1⟩, cnt_1 h]
    · rw [if_neg (fun z => h z.1), cnt_0 (by simpa using h)]
      rfl
theorem all_cnt {F : Nat → Int32} : ∀ (n : Nat), (∀ o, o < n → fo F o 6 = 0 ∨ fo F o 6 = 1) → fAll F n = nI (fCnt (fHg F) 0 n)
  | 0, _ => rfl
  | n + 1, h => by
    have ih := all_cnt n (fun o ho => h o (by omega))
    show fAll F n + fo F n 6 = _
    rw [ih]
    rcases h n (Nat.lt_succ_self _) with h0 | h1
    · have hq : fHg F n = false := by unfold fHg; rw [h0]; rfl
      rw [cnt_0 hq, h0, Int32.add_zero]
    · have hq : fHg F n = true := by unfold fHg; rw [h1]; rfl
      rw [cnt_1 hq, h1]
      exact nI_1 _
/-- a list of words without a word twice is short -/
theorem nd_le : ∀ (n : Nat) (L : List Nat), L.Nodup → (∀ v ∈ L, v < n) → L.length ≤ n
  | 0, L, _, h => by
    cases L with
    | nil => exact Nat.le_refl _
    | cons a L => exact absurd (h a List.mem_cons_self) (Nat.not_lt_zero _)
  | n + 1, L, hd, h => by
    by_cases hn : n ∈ L
    · have h1 := nd_le n (L.erase n) (hd.erase n) (fun v hv => by
        have h2 := (List.Nodup.mem_erase_iff hd).mp hv
        have := h v h2.2
        omega)
      rw [List.length_erase_of_mem hn] at h1
      omega
    · have h1 := nd_le n L hd (fun v hv => by
        have := h v hv
        have : v ≠ n := fun e => hn (e ▸ hv)
        omega)
      omega
section Way
variable {F : Nat → Int32} {P N : Nat}
theorem it_add (w : Int32) (i : Nat) : ∀ j, fIt F N w (i + j) = fIt F N (fIt F N w i) j
  | 0 => rfl
  | j + 1 => by
    show fLk F N (fIt F N w (i + j)) = fLk F N (fIt F N (fIt F N w i) j)
    rw [it_add w i j]
theorem it_n5 (ok : fOk F P N) {w : Int32} {i : Nat} (h : fIt F N w i = -5) : ∀ j, fIt F N w (i + j) = -5
  | 0 => h
  | j + 1 => by
    show fLk F N (fIt F N w (i + j)) = -5
    rw [it_n5 ok h j]
    exact lk_n5 ok
theorem lk_w (ok : fOk F P N) (w : Int32) : fLk F N w = -5 ∨ ∃ u, u < 16 ∧ fLk F N w = nI u := by
  cases hr : fRul F w N with
  | none => exact Or.inl (fLk_n hr)
  | some r => rw [fLk_r hr]; exact ok.link r (fRul_lt hr)
theorem cm_iff {to : Int32} : ∀ (n : Nat) (w : Int32), fCm F N to n w = true ↔ ∃ j, 1 ≤ j ∧ j ≤ n ∧ fIt F N w j = to ∧ ∀ i, 1 ≤ i → i ≤ j → fIt F N w i ≠ -5
  | 0, w => ⟨fun h => (by cases h), fun ⟨j, h1, h2, _⟩ => (by omega)⟩
  | n + 1, w => by
    have hs : ∀ i, fIt F N (fLk F N w) i = fIt F N w (i + 1) := fun i => by rw [Nat.add_comm i 1]; exact (it_add w 1 i).symm
    unfold fCm
    by_cases h5 : fLk F N w = -5
    · rw [if_pos h5]
      refine ⟨fun h => (by cases h), fun ⟨j, h1, h2, h3, h4⟩ => ?_⟩
      exact absurd h5 (h4 1 (Nat.le_refl _) h1)
    · rw [if_neg h5]
      by_cases ht : fLk F N w = to
      · rw [if_pos ht]
        exact ⟨fun _ => ⟨1, Nat.le_refl _, by omega, ht, fun i h1 h2 => by rw [show i = 1 by omega]; exact h5⟩, fun _ => rfl⟩
      · rw [if_neg ht, cm_iff n (fLk F N w)]
        constructor
        · rintro ⟨j, h1, h2, h3, h4⟩
          refine ⟨j + 1, by omega, by omega, by rw [← hs]; exact h3, fun i g1 g2 => ?_⟩
          by_cases e : i = 1
          · rw [e]; exact h5
          · obtain ⟨i', rfl⟩ : ∃ i', i = i' + 1 := ⟨i - 1, by omega⟩
            rw [← hs]; exact h4 i' (by omega) (by omega)
        · rintro ⟨j, h1, h2, h3, h4⟩
          by_cases e : j = 1
          · rw [e] at h3; exact absurd h3 ht
          · obtain ⟨j', rfl⟩ : ∃ j', j = j' + 1 := ⟨j - 1, by omega⟩
            refine ⟨j', by omega, by omega, by rw [hs]; exact h3, fun i g1 g2 => by rw [hs]; exact h4 (i + 1) (by omega) (by omega)⟩
/-- a ring has no end -/
theorem ring_it {w : Int32} {j : Nat} (h : fIt F N w j = w) : ∀ t, fIt F N w (t * j) = w
  | 0 => by rw [Nat.zero_mul]; rfl
  | t + 1 => by rw [Nat.succ_mul, it_add, ring_it h t]; exact h
theorem ring_vl (ok : fOk F P N) {w : Int32} {j : Nat} (hw : w ≠ -5) (h1 : 1 ≤ j) (h : fIt F N w j = w) (m : Nat) : fVl F N m w = none := by
  refine fVl_ly ?_
  cases hL : fLy F N m w with
  | none => rfl
  | some L =>
    exfalso
    obtain ⟨-, h2, -⟩ := fLy_lt hL
    have h3 : fIt F N w (L + 1) = -5 := h2
    have h4 := it_n5 ok h3 ((L + 1) * j - (L + 1))
    have h5 : L + 1 ≤ (L + 1) * j := Nat.le_mul_of_pos_right _ h1
    rw [show L + 1 + ((L + 1) * j - (L + 1)) = (L + 1) * j by omega, ring_it h] at h4
    exact hw h4
/-- values as the component finds them: with the words on the way -/
def cV (F : Nat → Int32) (N : Nat) : Nat → List Nat → Nat → Option UInt32
  | 0, _, _ => none
  | n + 1, ps, w => match fRul F (nI w) N with
    | none => none
    | some r => if w ∈ ps then none else if fo F r 2 = -5 then some (fNm F r) else (cV F N n (w :: ps) (zN (fo F r 2))).bind (fBy F r)
def cO (F : Nat → Int32) (N n : Nat) (ps : List Nat) (r : Nat) : Option UInt32 := if fo F r 2 = -5 then some (fNm F r) else (cV F N n ps (zN (fo F r 2))).bind (fBy F r)
theorem cV_s {n : Nat} {ps : List Nat} {w : Nat} : cV F N (n + 1) ps w = match fRul F (nI w) N with
    | none => none
    | some r => if w ∈ ps then none else cO F N n (w :: ps) r := rfl
theorem cV_eq (ok : fOk F P N) : ∀ (n : Nat) (ps : List Nat) (w m : Nat), n ≤ m → ps.length + n = 17 → ps.Nodup → (∀ u ∈ ps, u < 16) → w < 16 → (∀ u ∈ ps, ∃ j, 1 ≤ j ∧ fIt F N (nI u) j = nI w) → cV F N n ps w = fVl F N m (nI w)
  | 0, ps, w, m, _, hl, hd, hp, _, _ => by
    have := nd_le 16 ps hd hp
    omega
  | n + 1, ps, w, m, hm, hl, hd, hp, hw, hr => by
    obtain ⟨m', rfl⟩ : ∃ m', m = m' + 1 := ⟨m - 1, by omega⟩
    rw [cV_s]
    conv => rhs; unfold fVl
    cases hrr : fRul F (nI w) N with
    | none => rfl
    | some r =>
      dsimp only
      by_cases hin : w ∈ ps
      · rw [if_pos hin]
        obtain ⟨j, h1, h2⟩ := hr w hin
        have h3 := ring_vl ok (nI_n5 (by omega)) h1 h2 (m' + 1)
        unfold fVl at h3
        rw [hrr] at h3
        exact h3.symm
      · rw [if_neg hin]
        unfold cO
        by_cases h5 : fo F r 2 = -5
        · rw [if_pos h5, if_pos h5]
        · rw [if_neg h5, if_neg h5]
          rcases ok.link r (fRul_lt hrr) with h6 | ⟨u, hu, h6⟩
          · exact absurd h6 h5
          · rw [h6, zN_nI (by omega)]
            have h1 : fIt F N (nI w) 1 = nI u := by show fLk F N (nI w) = nI u; rw [fLk_r hrr, h6]
            rw [cV_eq ok n (w :: ps) u m' (by omega) (by simp; omega) (List.nodup_cons.mpr ⟨hin, hd⟩) (fun v hv => by
              rcases List.mem_cons.mp hv with e | e
              · rw [e]; exact hw
              · exact hp v e) hu (fun v hv => by
              rcases List.mem_cons.mp hv with e | e
              · rw [e]; exact ⟨1, Nat.le_refl _, h1⟩
              · obtain ⟨j, g1, g2⟩ := hr v e
                exact ⟨j + 1, by omega, by show fLk F N (fIt F N (nI v) j) = nI u; rw [g2]; exact h1⟩)]
theorem cV_0 (ok : fOk F P N) {w : Nat} (hw : w < 16) : cV F N 17 [] w = fVl F N 17 (nI w) := cV_eq ok 17 [] w 17 (Nat.le_refl _) rfl List.nodup_nil (fun u h => by cases h) hw (fun u h => by cases h)
theorem cO_0 (ok : fOk F P N) {o : Nat} (ho : o < N) : cO F N 17 [] o = fVo F N 17 o := by
  unfold cO fVo
  by_cases h5 : fo F o 2 = -5
  · rw [if_pos h5, if_pos h5]
  · rw [if_neg h5, if_neg h5]
    rcases ok.link o ho with h6 | ⟨u, hu, h6⟩
    · exact absurd h6 h5
    · rw [h6, zN_nI (by omega), cV_0 ok hu]
theorem cO_b (ok : fOk F P N) {n o : Nat} {ps : List Nat} (ho : o < N) {v : UInt32} (h : cO F N n ps o = some v) : fB v (1000000000 * fU) := by
  unfold cO at h
  split at h
  · cases h
    exact (ok.bN ho).mono (Nat.mul_le_mul_right _ (by decide))
  · cases hv : cV F N n ps (zN (fo F o 2)) with
    | none => rw [hv] at h; cases h
    | some u =>
      rw [hv] at h
      have h : fBy F o u = some v := h
      unfold fBy at h
      split at h
      · rename_i hr
        cases h
        exact fB_val hr
      · cases h
theorem cV_b (ok : fOk F P N) {n w : Nat} {ps : List Nat} {v : UInt32} (h : cV F N n ps w = some v) : fB v (1000000000 * fU) := by
  cases n with
  | zero => cases h
  | succ n =>
    rw [cV_s] at h
    cases hr : fRul F (nI w) N with
    | none => rw [hr] at h; cases h
    | some r =>
      rw [hr] at h
      dsimp only at h
      split at h
      · cases h
      · exact cO_b ok (fRul_lt hr) h
end Way
