/-! WHAT THE OPERATIONS ANSWER, on a row; the invariant behind them -/
theorem fOk.of {F F' : Nat → Int32} {P N : Nat} (ok : fOk F P N) (h0 : F' 0 = F 0) (h1 : F' 1 = F 1) (h5 : F' 5 = F 5) (hr : ∀ p, p < 6 → F' (6 + p) = F (6 + p)) (hk : ∀ o k, o < N → k < 5 → fo F' o k = fo F o k) (hm : ∀ o, o < N → fo F' o 6 = fo F o 6 ∨ fo F' o 6 = 0) (hs : ∀ o, o < N → fB (fSg F' o) (16 * fU)) (hsH : ∀ o, o < N → fo F' o 6 = 1 → fN (fSg F' o) (16 * fU)) : fOk F' P N := by
  refine ⟨by rw [h0]; exact ok.hP, ok.hP6, by rw [h1]; exact ok.hN, ok.hN2, ?_, ?_, ?_, ?_, ?_, ?_, hs, hsH, ?_, ?_⟩
  · intro o ho; rw [hk o 0 ho (by decide)]; exact ok.who o ho
  · intro o ho; rw [hk o 1 ho (by decide)]; exact ok.word o ho
  · intro o ho; rw [hk o 2 ho (by decide)]; exact ok.link o ho
  · intro o ho; rw [hk o 3 ho (by decide)]; exact ok.fac o ho
  · intro o ho; rw [hk o 4 ho (by decide)]; exact ok.num o ho
  · intro o ho
    rcases hm o ho with e | e
    · rw [e]; exact ok.mark o ho
    · exact Or.inl e
  · intro p hp; rw [hr p (Nat.lt_of_lt_of_le hp ok.hP6)]; exact ok.rank p hp
  · rw [h5]; exact ok.tol
/-- a place that says nothing of orders -/
theorem fOk.lo {F : Nat → Int32} {P N i : Nat} {x : Int32} (ok : fOk F P N) (hi : i = 2 ∨ i = 3 ∨ i = 4) : fOk (upd F i x) P N := by
  have hf : ∀ o k, fo (upd F i x) o k = fo F o k := fun o k => fo_lo (by omega)
  refine ok.of (up_lo (by omega)) (up_lo (by omega)) (up_lo (by omega)) (fun p hp => up_lo (by omega)) (fun o k _ _ => hf o k) (fun o _ => Or.inl (hf o 6)) (fun o ho => ?_) (fun o ho h => ?_)
  · unfold fSg; rw [hf]; exact ok.str o ho
  · unfold fSg; rw [hf] at h ⊢; exact ok.strH o ho h
theorem fOk.off {F : Nat → Int32} {P N o : Nat} (ok : fOk F P N) : fOk (upd F (12 + 7 * o + 6) 0) P N := by
  have hf : ∀ o' k, k < 7 → fo (upd F (12 + 7 * o + 6) 0) o' k = if o' = o ∧ k = 6 then 0 else fo F o' k := fun o' k hk => fo_up (by decide) hk
  refine ok.of (up_lo (by omega)) (up_lo (by omega)) (up_lo (by omega)) (fun p hp => up_lo (by omega)) (fun o' k _ hk => ?_) (fun o' _ => ?_) (fun o' ho => ?_) (fun o' ho h => ?_)
  · rw [hf o' k (by omega)]; exact if_neg (fun z => by omega)
  · rw [hf o' 6 (by decide)]
    by_cases e : o' = o ∧ 6 = 6
    · rw [if_pos e]; exact Or.inr rfl
    · rw [if_neg e]; exact Or.inl rfl
  · unfold fSg; rw [hf o' 5 (by decide), if_neg (fun z => by omega)]; exact ok.str o' ho
  · rw [hf o' 6 (by decide)] at h
    unfold fSg; rw [hf o' 5 (by decide), if_neg (fun z => by omega)]
    by_cases e : o' = o ∧ 6 = 6
    · rw [if_pos e] at h; exact absurd h (by decide)
    · rw [if_neg e] at h; exact ok.strH o' ho h
theorem fOk.str5 {F : Nat → Int32} {P N o : Nat} {v : UInt32} (ok : fOk F P N) (hv : fN v (16 * fU)) : fOk (upd F (12 + 7 * o + 5) v.toInt32) P N := by
  have hf : ∀ o' k, k < 7 → fo (upd F (12 + 7 * o + 5) v.toInt32) o' k = if o' = o ∧ k = 5 then v.toInt32 else fo F o' k := fun o' k hk => fo_up (by decide) hk
  have hs : ∀ o', fSg (upd F (12 + 7 * o + 5) v.toInt32) o' = if o' = o then v else fSg F o' := by
    intro o'
    unfold fSg
    rw [hf o' 5 (by decide)]
    by_cases e : o' = o
    · rw [if_pos ⟨e, rfl⟩, if_pos e]; rfl
    · rw [if_neg (fun z => e z.1), if_neg e]
  refine ok.of (up_lo (by omega)) (up_lo (by omega)) (up_lo (by omega)) (fun p hp => up_lo (by omega)) (fun o' k _ hk => ?_) (fun o' _ => Or.inl ?_) (fun o' ho => ?_) (fun o' ho h => ?_)
  · rw [hf o' k (by omega)]; exact if_neg (fun z => by omega)
  · rw [hf o' 6 (by decide)]; exact if_neg (fun z => by omega)
  · rw [hs]; split
    · exact hv.B
    · exact ok.str o' ho
  · rw [hs]; split
    · exact hv
    · rw [hf o' 6 (by decide), if_neg (fun z => by omega)] at h
      exact ok.strH o' ho h
theorem st_fo {F : Nat → Int32} {N o k : Nat} {f : UInt32} (hk : k < 7) : fo (fSt F N f) o k = fo (fS2 (fS1 F N f N) N) o k := by
  unfold fSt
  rw [fo_lo (by decide), fo_lo (by decide)]
theorem fOk.storm {F : Nat → Int32} {P N : Nat} {f : UInt32} (ok : fOk F P N) (hf : fN f (10 * fU)) : fOk (fSt F N f) P N := by
  have h6 : ∀ o, o < N → fo (fSt F N f) o 6 = if fFl (fS1 F N f N) o = true then 0 else fo F o 6 := by
    intro o ho
    rw [st_fo (by decide)]
    unfold fS2
    rw [fo_fW (by decide), s1_fo (by decide) (Or.inl (by decide))]
    by_cases e : fFl (fS1 F N f N) o = true
    · rw [if_pos ⟨rfl, ho, e⟩, if_pos e]
    · rw [if_neg (fun z => e z.2.2), if_neg e]
  have h5 : ∀ o, fSg (fSt F N f) o = fSg (fS1 F N f N) o := by
    intro o
    unfold fSg
    rw [st_fo (by decide), s2_fo (by decide) (Or.inl (by decide))]
  have hlo : ∀ i, i < 12 → i ≠ 2 → i ≠ 4 → fSt F N f i = F i := by
    intro i hi h2 h4
    unfold fSt
    rw [up_lo h4, up_lo h2]
    exact (fW_lo hi).trans (fW_lo hi)
  refine ok.of (hlo 0 (by decide) (by decide) (by decide)) (hlo 1 (by decide) (by decide) (by decide)) (hlo 5 (by decide) (by decide) (by decide)) (fun p hp => hlo (6 + p) (by omega) (by omega) (by omega)) (fun o k _ hk => ?_) (fun o ho => ?_) (fun o ho => ?_) (fun o ho h => ?_)
  · rw [st_fo (by omega), s2_fo (by omega) (Or.inl (by omega)), s1_fo (by omega) (Or.inl (by omega))]
  · rw [h6 o ho]; split
    · exact Or.inr rfl
    · exact Or.inl rfl
  · rw [h5]; exact s1_B ok hf ho
  · rw [h6 o ho] at h
    rw [h5]
    by_cases e : fFl (fS1 F N f N) o = true
    · rw [if_pos e] at h; exact absurd h (by decide)
    · rw [if_neg e] at h
      have hh : fHg (fS1 F N f N) o = true := by rw [s1_hg]; exact decide_eq_true h
      refine pos_N (s1_B ok hf ho) ?_
      by_cases c : 0 < Op.cmpValue (FP.fcmp (fSg (fS1 F N f N) o) 0) .l
      · exact c
      · exact absurd (fl_t hh c) e
theorem fOk.nail {F : Nat → Int32} {P N : Nat} {p w link fac num str : Int32} (ok : fOk F P N) (h : ¬ fNr F N p w link fac num str < 0) : fOk (fNl F N p w link fac num str) P (N + 1) ∧ N < 40 ∧ fNr F N p w link fac num str = nI N ∧ (∃ p', p' < P ∧ p = nI p') ∧ (∃ w', w' < 16 ∧ w = nI w') ∧ (link = -5 ∨ ∃ u, u < 16 ∧ link = nI u) := by
  have hN2 := ok.hN2
  unfold fNr at h
  split at h
  · exact absurd (by decide) h
  · rename_i c1
    split at h
    · exact absurd (by decide) h
    · rename_i c2
      split at h
      · exact absurd (by decide) h
      · rename_i c3
        have hr : fNr F N p w link fac num str = nI N := by unfold fNr; rw [if_neg c1, if_neg c2, if_neg c3]
        simp only [Bool.not_eq_true', Bool.not_eq_false, Bool.and_eq_true, Bool.or_eq_true, decide_eq_true_iff] at c1 c2
        obtain ⟨⟨d1, d2⟩, d3⟩ := c1
        obtain ⟨⟨⟨e1, e2⟩, e3⟩, e4⟩ := c2
        have hN : N < 40 := by
          rcases Nat.lt_or_ge N 40 with q | q
          · exact q
          · exact absurd (Or.inr (by rw [show N = 40 by omega]; rfl)) c3
        rw [ok.hP] at d1
        obtain ⟨p', hp', rfl⟩ := fIn_nI d1 (by have := ok.hP6; omega)
        obtain ⟨w', hw', rfl⟩ := fIn_w d2
        have hlk : link = -5 ∨ ∃ u, u < 16 ∧ link = nI u := by
          rcases d3 with d3 | d3
          · exact Or.inl d3
          · obtain ⟨u, hu, rfl⟩ := fIn_w d3
            exact Or.inr ⟨u, hu, rfl⟩
        have hf : ∀ o k, k < 7 → fo (fNl F N (nI p') (nI w') link fac num str) o k = if o = N then (if k = 0 then nI p' else if k = 1 then nI w' else if k = 2 then link else if k = 3 then fac else if k = 4 then num else if k = 5 then str else 1) else fo F o k := by
          intro o k hk
          unfold fNl
          rw [fo_lo (by decide), fo_up (by decide) hk, fo_up (by decide) hk, fo_up (by decide) hk, fo_up (by decide) hk, fo_up (by decide) hk, fo_up (by decide) hk, fo_up (by decide) hk]
          by_cases e : o = N
          · simp only [e, true_and, if_true]
            rcases (by omega : k = 0 ∨ k = 1 ∨ k = 2 ∨ k = 3 ∨ k = 4 ∨ k = 5 ∨ k = 6) with q | q | q | q | q | q | q <;> subst q <;> rfl
          · simp only [e, false_and, if_false]
        have hlo : ∀ i, i < 12 → i ≠ 1 → fNl F N (nI p') (nI w') link fac num str i = F i := by
          intro i hi h1
          unfold fNl
          rw [up_lo h1, up_lo (by omega), up_lo (by omega), up_lo (by omega), up_lo (by omega), up_lo (by omega), up_lo (by omega), up_lo (by omega)]
        have hsB : fN str.toUInt32 (16 * fU) := (fFrom_S e3).mono (Nat.mul_le_mul_right _ (by decide))
        refine ⟨⟨by rw [hlo 0 (by decide) (by decide)]; exact ok.hP, ok.hP6, up_at, hN, ?_, ?_, ?_, ?_, ?_, ?_, ?_, ?_, ?_, ?_⟩, hN, hr, ⟨p', hp', rfl⟩, ⟨w', hw', rfl⟩, hlk⟩
        · intro o ho; rw [hf o 0 (by decide)]; by_cases e : o = N
          · rw [if_pos e]; exact ⟨p', hp', rfl⟩
          · rw [if_neg e]; exact ok.who o (by omega)
        · intro o ho; rw [hf o 1 (by decide)]; by_cases e : o = N
          · rw [if_pos e]; exact ⟨w', hw', rfl⟩
          · rw [if_neg e]; exact ok.word o (by omega)
        · intro o ho; rw [hf o 2 (by decide)]; by_cases e : o = N
          · rw [if_pos e]; exact hlk
          · rw [if_neg e]; exact ok.link o (by omega)
        · intro o ho; rw [hf o 3 (by decide)]; by_cases e : o = N
          · rw [if_pos e]; exact e1
          · rw [if_neg e]; exact ok.fac o (by omega)
        · intro o ho; rw [hf o 4 (by decide)]; by_cases e : o = N
          · rw [if_pos e]; exact e2
          · rw [if_neg e]; exact ok.num o (by omega)
        · intro o ho; rw [hf o 6 (by decide)]; by_cases e : o = N
          · rw [if_pos e]; exact Or.inr rfl
          · rw [if_neg e]; exact ok.mark o (by omega)
        · intro o ho; unfold fSg; rw [hf o 5 (by decide)]; by_cases e : o = N
          · rw [if_pos e]; exact hsB.B
          · rw [if_neg e]; exact ok.str o (by omega)
        · intro o ho hh; unfold fSg; rw [hf o 5 (by decide)]; by_cases e : o = N
          · rw [if_pos e]; exact hsB
          · rw [if_neg e]; rw [hf o 6 (by decide), if_neg e] at hh; exact ok.strH o (by omega) hh
        · intro q hq; rw [hlo (6 + q) (by have := ok.hP6; omega) (by omega)]; exact ok.rank q hq
        · rw [hlo 5 (by decide) (by decide)]; exact ok.tol
theorem fOk.add {F : Nat → Int32} {P N : Nat} {rank : Int32} (ok : fOk F P N) (hP : P < 6) (hr : fIn rank 1 5 = true) : fOk (upd (upd F (6 + P) rank) 0 (nI (P + 1))) (P + 1) N := by
  have hf : ∀ o k, fo (upd (upd F (6 + P) rank) 0 (nI (P + 1))) o k = fo F o k := fun o k => (fo_lo (by omega)).trans (fo_lo (by omega))
  have hs : ∀ o, fSg (upd (upd F (6 + P) rank) 0 (nI (P + 1))) o = fSg F o := fun o => by unfold fSg; rw [hf]
  refine ⟨up_at, hP, (up_lo (by decide)).trans ((up_lo (by omega)).trans ok.hN), ok.hN2, ?_, ?_, ?_, ?_, ?_, ?_, ?_, ?_, ?_, ?_⟩
  · intro o ho; rw [hf]; obtain ⟨p, h1, h2⟩ := ok.who o ho; exact ⟨p, by omega, h2⟩
  · intro o ho; rw [hf]; exact ok.word o ho
  · intro o ho; rw [hf]; exact ok.link o ho
  · intro o ho; rw [hf]; exact ok.fac o ho
  · intro o ho; rw [hf]; exact ok.num o ho
  · intro o ho; rw [hf]; exact ok.mark o ho
  · intro o ho; rw [hs]; exact ok.str o ho
  · intro o ho h; rw [hs]; rw [hf] at h; exact ok.strH o ho h
  · intro p hp
    rw [up_lo (by omega)]
    by_cases e : p = P
    · rw [e, up_at]; exact hr
    · rw [up_lo (by omega)]; exact ok.rank p (by omega)
  · rw [up_lo (by decide), up_lo (by omega)]; exact ok.tol
theorem fOk.rnk {F : Nat → Int32} {P N p : Nat} {rank : Int32} (ok : fOk F P N) (hp : p < P) (hr : fIn rank 1 5 = true) : fOk (upd F (6 + p) rank) P N := by
  have h6 := ok.hP6
  have hf : ∀ o k, fo (upd F (6 + p) rank) o k = fo F o k := fun o k => fo_lo (by omega)
  have hs : ∀ o, fSg (upd F (6 + p) rank) o = fSg F o := fun o => by unfold fSg; rw [hf]
  refine ⟨(up_lo (by omega)).trans ok.hP, h6, (up_lo (by omega)).trans ok.hN, ok.hN2, ?_, ?_, ?_, ?_, ?_, ?_, ?_, ?_, ?_, ?_⟩
  · intro o ho; rw [hf]; exact ok.who o ho
  · intro o ho; rw [hf]; exact ok.word o ho
  · intro o ho; rw [hf]; exact ok.link o ho
  · intro o ho; rw [hf]; exact ok.fac o ho
  · intro o ho; rw [hf]; exact ok.num o ho
  · intro o ho; rw [hf]; exact ok.mark o ho
  · intro o ho; rw [hs]; exact ok.str o ho
  · intro o ho h; rw [hs]; rw [hf] at h; exact ok.strH o ho h
  · intro q hq
    by_cases e : q = p
    · rw [e, up_at]; exact hr
    · rw [up_lo (by omega)]; exact ok.rank q hq
  · rw [up_lo (by omega)]; exact ok.tol
theorem fOk.tl {F : Nat → Int32} {P N : Nat} {b : Int32} (ok : fOk F P N) (hr : fFrom b 0 1120403456 = true) : fOk (upd F 5 b) P N := by
  have hf : ∀ o k, fo (upd F 5 b) o k = fo F o k := fun o k => fo_lo (by omega)
  have hs : ∀ o, fSg (upd F 5 b) o = fSg F o := fun o => by unfold fSg; rw [hf]
  refine ⟨(up_lo (by decide)).trans ok.hP, ok.hP6, (up_lo (by decide)).trans ok.hN, ok.hN2, ?_, ?_, ?_, ?_, ?_, ?_, ?_, ?_, ?_, ?_⟩
  · intro o ho; rw [hf]; exact ok.who o ho
  · intro o ho; rw [hf]; exact ok.word o ho
  · intro o ho; rw [hf]; exact ok.link o ho
  · intro o ho; rw [hf]; exact ok.fac o ho
  · intro o ho; rw [hf]; exact ok.num o ho
  · intro o ho; rw [hf]; exact ok.mark o ho
  · intro o ho; rw [hs]; exact ok.str o ho
  · intro o ho h; rw [hs]; rw [hf] at h; exact ok.strH o ho h
  · intro q hq; rw [up_lo (by omega)]; exact ok.rank q hq
  · rw [up_at]; exact hr
/-- the row at the start -/
theorem fOk.zero : fOk (fun _ => 0) 0 0 := by
  refine ⟨rfl, by decide, rfl, by decide, fun o h => absurd h (Nat.not_lt_zero _), fun o h => absurd h (Nat.not_lt_zero _), fun o h => absurd h (Nat.not_lt_zero _), fun o h => absurd h (Nat.not_lt_zero _), fun o h => absurd h (Nat.not_lt_zero _), fun o h => absurd h (Nat.not_lt_zero _), fun o h => absurd h (Nat.not_lt_zero _), fun o h => absurd h (Nat.not_lt_zero _), fun o h => absurd h (Nat.not_lt_zero _), ?_⟩
  decide +kernel
/-! answers: a code, and the row that comes in the row's place -/
abbrev zR : Type := Int32 × Option (Nat → Int32)
def zN (a : Int32) : Nat := a.toNatClampNeg
def zAdd (F : Nat → Int32) (P : Nat) (rank : Int32) : zR := if fIn rank 1 5 = false then (-2, none) else if P = 6 then (-3, none) else (nI P, some (upd (upd F (6 + P) rank) 0 (nI (P + 1))))
def zRnk (F : Nat → Int32) (p rank : Int32) : zR := if fIn p 0 (F 0 - 1) = false then (-1, none) else if fIn rank 1 5 = false then (-2, none) else if F (6 + zN p) = rank then (-5, none) else (F (6 + zN p), some (upd F (6 + zN p) rank))
def zTol (F : Nat → Int32) (b : Int32) : zR := if b < 0 ∨ fFrom b 0 1120403456 = false then (-2, none) else if F 5 = b then (-5, none) else (1, some (upd F 5 b))
def zNl (F : Nat → Int32) (N : Nat) (p w link fac num str : Int32) : zR := (fNr F N p w link fac num str, if fNr F N p w link fac num str < 0 then none else some (fNl F N p w link fac num str))
def zLnk (F : Nat → Int32) (N : Nat) (p w other fac num str : Int32) : zR := zNl F N p w (if fIn other 0 15 then other else 16) fac num str
def fTr (F : Nat → Int32) (o : Nat) : Nat → Int32 := upd (upd F (12 + 7 * o + 6) 0) 3 (F 3 + 1)
def zTear (F : Nat → Int32) (N : Nat) (o : Int32) : zR := if fIn o 0 (F 1 - 1) = false then (-1, none) else if fHg F (zN o) = false then (-5, none) else (nI (fCnt (fHf (fTr F (zN o)) (fo F (zN o) 1)) 0 N), some (fTr F (zN o)))
def fHs (F : Nat → Int32) (o : Nat) : UInt32 := FP.fadd (fSg F o) (FP.fmul (FP.fsub 1092616192 (fSg F o)) 1056964608)
def fHm (F : Nat → Int32) (o : Nat) : Nat → Int32 := upd F (12 + 7 * o + 5) (fHs F o).toInt32
def zHam (F : Nat → Int32) (o : Int32) : zR := if fIn o 0 (F 1 - 1) = false then (-1, none) else if fHg F (zN o) = false then (-4, none) else (FP.f2i (FP.fmul (fHs F (zN o)) 1120403456), some (fHm F (zN o)))
def zSto (F : Nat → Int32) (N : Nat) (b : Int32) : zR := if fFrom b 1036831949 1092616192 = false then (-2, none) else (nI (fSn F N b.toUInt32), some (fSt F N b.toUInt32))
/-- readers -/
def oF : Option UInt32 → UInt32
  | none => 2143289344
  | some v => v
def zVal (F : Nat → Int32) (N : Nat) (w : Int32) : Option UInt32 := if fIn w 0 15 = false then none else fVl F N 17 w
def zVof (F : Nat → Int32) (N : Nat) (o : Int32) : Option UInt32 := if fIn o 0 (F 1 - 1) = false then none else fVo F N 17 (zN o)
def zWrd (F : Nat → Int32) (N : Nat) (w what : Int32) : Int32 := if fIn w 0 15 = false then -1 else
  if what = 0 then oI (fRul F w N) else if what = 1 then oI (fTop F w N) else if what = 2 then nI (fCnt (fHf F w) 0 N) else if what = 3 then bI (fVl F N 17 w).isSome else if what = 4 then oI (fCf F N w) else if what = 5 then fBits (fun u => fCm F N w 16 (nI u)) nI 16 else if what = 6 then oI (fLy F N 17 w) else -2
def fHa (q : Nat → Bool) : Nat → Nat → Option Nat
  | 0, _ => none
  | n + 1, k => if q n then (if k = 0 then some n else fHa q n (k - 1)) else fHa q n k
def zHat (F : Nat → Int32) (N : Nat) (w place : Int32) : Int32 := if fIn w 0 15 = false then -1 else if place < 0 then -2 else oI (fHa (fHf F w) N (zN place))
def zOrd (F : Nat → Int32) (N : Nat) (o what : Int32) : Int32 := if fIn o 0 (F 1 - 1) = false then -1 else
  if what = 0 then fo F (zN o) 0 else if what = 1 then fo F (zN o) 1 else if what = 2 then fo F (zN o) 2 else if what = 3 then fo F (zN o) 6
  else if what = 4 then (if fHg F (zN o) then nI (fCnt (fHf F (fo F (zN o) 1)) (zN o + 1) (N - (zN o + 1))) else -5)
  else if what = 5 then (if fHg F (zN o) then nI (fCnt (fHf F (fo F (zN o) 1)) 0 N) - nI (fCnt (fHf F (fo F (zN o) 1)) (zN o) (N - zN o)) else -5)
  else if what = 6 then FP.f2i (FP.fmul (fSg F (zN o)) 1120403456) else if what = 7 then bI (decide (oI (fRul F (fo F (zN o) 1) N) = nI (zN o))) else -2
def zRe (F : Nat → Int32) (o what : Int32) : Option UInt32 := if fIn o 0 (F 1 - 1) = false ∨ fIn what 0 2 = false then none else if what = 0 then some (fNm F (zN o)) else if what = 1 then some (fFc F (zN o)) else some (fSg F (zN o))
def zRsn (F : Nat → Int32) (N : Nat) (w step : Int32) : Int32 := if fIn w 0 15 = false then -1 else if fIn step 0 16 = false then -2 else oI (fRul F (fIt F N w (zN step)) N)
def fOff (F : Nat → Int32) (o : Nat) : Nat → Int32 := upd F (12 + 7 * o + 6) 0
def zChg (F : Nat → Int32) (N : Nat) (o : Int32) : Int32 := if fIn o 0 (F 1 - 1) = false then -1 else if fHg F (zN o) = false then -5 else nI (fCnt (fun u => fDf F (fVl F N 17 (nI u)) (fVl (fOff F (zN o)) N 17 (nI u))) 0 16)
/-- storms one after another while an order hangs -/
def fIs (N : Nat) (f : UInt32) : Nat → (Nat → Int32) → (Nat → Int32)
  | 0, F => F
  | n + 1, F => fSt (fIs N f n F) N f
def fSl (N : Nat) (f : UInt32) (o : Nat) : Nat → Nat → (Nat → Int32) → Option Nat
  | 0, n, F => if fHg F o then none else some n
  | k + 1, n, F => if fHg F o then fSl N f o k (n + 1) (fSt F N f) else some n
def zSl (F : Nat → Int32) (N : Nat) (o b : Int32) : Int32 := if fIn o 0 (F 1 - 1) = false then -1 else if fFrom b 1036831949 1092616192 = false then -2 else if fHg F (zN o) = false then -5 else oI (fSl N b.toUInt32 (zN o) 200 0 F)
def zPer (F : Nat → Int32) (N : Nat) (p what : Int32) : Int32 := if fIn p 0 (F 0 - 1) = false then -1 else if fIn what 0 4 = false then -2 else if what = 0 then F (6 + zN p) else if what = 4 then fBits (fun o => fHg F o && decide (fo F o 0 = p)) (fun o => fo F o 1) N else nI (fCnt (fOw F N p what) 0 N)
def zCnt (F : Nat → Int32) (N a n : Nat) (what : Int32) : Int32 :=
  if what = 0 then F 0 else if what = 1 then F 1 else if what = 2 then fAll F N else if what = 3 then F 2 else if what = 4 then F 3
  else if what = 5 ∨ what = 6 ∨ what = 7 ∨ what = 8 then nI (fCnt (fun u => fWw F N what (nI u)) 0 16) else if what = 9 then F 4 else if what = 10 then F 5 else if what = 11 then nI a else if what = 12 then nI n else -2
/-- where the reference stands behind an operation -/
abbrev tX : List Nat := [0, 1, 2, 9, 10, 11, 12, 13, 14, 15]
abbrev tXa : List Nat := [0, 1, 2, 5, 6, 9, 10, 11, 12, 13, 14, 15]
abbrev tRes (V V1 : tV) (F : Nat → Int32) : Prop := tQ tX V V1 ∧ V1.2.1 1 = F
def tDo (V V1 : tV) (F : Nat → Int32) (a : Nat) : Option (Nat → Int32) → Prop
  | none => tRes V V1 F
  | some F' => tQ tXa V V1 ∧ V1.2.1 1 = F' ∧ tAct V V1 F a
theorem tAct.from {V V0 V1 : tV} {F : Nat → Int32} {a : Nat} (h : tAct V0 V1 F a) (he : V0.2.1 5 = V.2.1 5) : tAct V V1 F a := by
  obtain ⟨h1, h2, h3⟩ := h
  refine ⟨h1, fun i hi => (h2 i hi).trans ?_, h3⟩
  unfold tOld
  rw [he]
theorem zN_nI {n : Nat} (h : n < 2 ^ 31) : zN (nI n) = n := nI_clamp h
theorem zN_k {k n : Nat} (h : k < n) (hn : n ≤ 40) : zN (nI k) = k := nI_clamp (by omega)
/-- none comes behind none -/
theorem rul_n5 {F : Nat → Int32} {P N : Nat} (ok : fOk F P N) : ∀ n, n ≤ N → fRul F (-5) n = none
  | 0, _ => rfl
  | n + 1, h => by
    obtain ⟨w, hw, e⟩ := ok.word n (by omega)
    have hf : fHf F (-5) n = false := by
      unfold fHf
      rw [e, decide_eq_false (nI_n5 (by omega)), Bool.and_false]
    unfold fRul
    rw [hf, Bool.false_and]
    exact rul_n5 ok n (by omega)
theorem lk_n5 {F : Nat → Int32} {P N : Nat} (ok : fOk F P N) : fLk F N (-5) = -5 := fLk_n (rul_n5 ok N (Nat.le_refl _))
theorem rsn_n {F : Nat → Int32} {P N : Nat} (ok : fOk F P N) {w : Int32} : ∀ (d j : Nat), fRul F (fIt F N w j) N = none → fRul F (fIt F N w (j + d)) N = none
  | 0, j, h => h
  | d + 1, j, h => by
    have h1 : fIt F N w (j + 1) = -5 := fLk_n h
    have h2 := rsn_n ok d (j + 1) (by rw [h1]; exact rul_n5 ok N (Nat.le_refl _))
    rw [show j + (d + 1) = j + 1 + d by omega]
    exact h2
theorem had_s {g : Nat → UInt32} {j : Nat} {x : UInt32} {q : Nat → UInt32 → Prop} (hg : ∀ i, i < j → q i (g i)) (hx : q j x) : ∀ i, i < j + 1 → q i (vf_upd g j x i) := by
  intro i hi
  unfold vf_upd
  by_cases e : i = j
  · subst e; rw [if_pos rfl]; exact hx
  · rw [if_neg e]; exact hg i (by omega)
theorem df_tol {F F' : Nat → Int32} {x y : Option UInt32} (h : F' 5 = F 5) : fDf F' x y = fDf F x y := by
  cases x <;> cases y <;> first | rfl | (unfold fDf; rw [h])
theorem off_on {F : Nat → Int32} {o : Nat} (h : fo F o 6 = 1) : upd (fOff F o) (12 + 7 * o + 6) 1 = F := by
  funext i
  unfold fOff upd
  by_cases e : i = 12 + 7 * o + 6
  · rw [if_pos e, e]; exact h.symm
  · rw [if_neg e, if_neg e]
/-- a switch's ways -/
theorem tb_out {x : Int32} {n : Nat} (hn : n < 1000) (h : ∀ k, k ≤ n → x ≠ nI k) : x.toInt < 0 ∨ (n : Int) < x.toInt := by
  rcases Int.lt_or_le x.toInt 0 with c | c
  · exact Or.inl c
  · refine Or.inr (Int.not_le.mp fun d => ?_)
    obtain ⟨j, hj, rfl⟩ := nI_of (x := x) (fun z => by rw [Int32.lt_iff_toInt_lt] at z; have e0 : (0 : Int32).toInt = 0 := rfl; omega)
    rw [nI_toInt hj] at d
    exact h j (by omega) rfl
section TRow3
variable {p : Program} {l : Launch} {e : Env} {R : Room} {s : State} {m : MethodId} {args : Array Value} {below : List Frame} {meth : Method} {c : Code} {H : Heap} {locs : List Loc} {cells slots : Nat} {Q : State → Prop}
variable {cc : ByteArray} {pc nL : Nat} {ls : Array Slot} {rest : List Value} {K : gK} {G0 : gG} {A : Nat → Nat} {V : tV}
theorem t_zldE (M : gM K p s m args c cc nL RX2) (hA : tInj A) {j : Nat} {x : Int32} (hv : V.2.1 14 j = x) (hR : gR K (tG K G0 A V) H) {i : Int32} (hi : i = nI j) (hj : j < 16) (hdg : decode cc pc = .ok (.baload, 1))
    (kk : W p l e R s m args below meth c H locs cells slots Q (F0 m (pc + 1) ls (.int x :: rest))) : W p l e R s m args below meth c H locs cells slots Q (F0 m pc ls (.int i :: .ref (A 14) :: rest)) := by
  subst hv
  exact g_zld M hR (tG_z hA) j hi hj (by decide) hdg kk
theorem t_fldE (M : gM K p s m args c cc nL RX2) (hA : tInj A) {j : Nat} {x : UInt32} (hv : V.2.2 j = x) (hR : gR K (tG K G0 A V) H) {i : Int32} (hi : i = nI j) (hj : j < 16) (hdg : decode cc pc = .ok (.faload, 1))
    (kk : W p l e R s m args below meth c H locs cells slots Q (F0 m (pc + 1) ls (.float x :: rest))) : W p l e R s m args below meth c H locs cells slots Q (F0 m pc ls (.int i :: .ref (A 15) :: rest)) := by
  subst hv
  exact g_fld M hR (tG_f hA) j hi hj (by decide) hdg kk
theorem t_zstQ (M : gM K p s m args c cc nL RX2) (hA : tInj A) (hR : gR K (tG K G0 A V) H) (hS : va_S (gA K) s.heap H locs) {i : Int32} {b : Bool} (j : Nat) (hi : i = nI j) (hj : j < 16) (hdg : decode cc pc = .ok (.bastore, 1))
    (kk : ∀ (V' : tV) (H1 : Heap) (locs1 : List Loc), tQ [14] V V' → V'.2.1 14 = upd (V.2.1 14) j (bI b) → V'.2.2 = V.2.2 → gR K (tG K G0 A V') H1 → va_S (gA K) s.heap H1 locs1 → W p l e R s m args below meth c H1 locs1 cells slots Q (F0 m (pc + 1) ls rest)) : W p l e R s m args below meth c H locs cells slots Q (F0 m pc ls (.int (bI b) :: .int i :: .ref (A 14) :: rest)) := by
  refine g_zst M hR hS (tG_z hA) j hi hj (by decide) (by cases b; exact Or.inl rfl; exact Or.inr rfl) hdg (fun H1 locs1 r1 r2 => ?_)
  rw [tG_az hA] at r1
  exact kk (V.1, va_up V.2.1 14 (upd (V.2.1 14) j (bI b)), V.2.2) H1 locs1 (tQ.ast tQ.rf (List.mem_singleton.mpr rfl)) (by simp [va_up]) rfl r1 r2
theorem tQ_f {V : tV} {g : Nat → UInt32} : tQ [15] V (V.1, V.2.1, g) := ⟨fun _ _ => ⟨rfl, rfl⟩, fun h => absurd (List.mem_singleton.mpr rfl) h⟩
theorem t_fstQ (M : gM K p s m args c cc nL RX2) (hA : tInj A) (hR : gR K (tG K G0 A V) H) (hS : va_S (gA K) s.heap H locs) {i : Int32} {x : UInt32} (j : Nat) (hi : i = nI j) (hj : j < 16) (hdg : decode cc pc = .ok (.fastore, 1))
    (kk : ∀ (V' : tV) (H1 : Heap) (locs1 : List Loc), tQ [15] V V' → V'.2.2 = vf_upd V.2.2 j x → V'.2.1 = V.2.1 → gR K (tG K G0 A V') H1 → va_S (gA K) s.heap H1 locs1 → W p l e R s m args below meth c H1 locs1 cells slots Q (F0 m (pc + 1) ls rest)) : W p l e R s m args below meth c H locs cells slots Q (F0 m pc ls (.float x :: .int i :: .ref (A 15) :: rest)) := by
  refine g_fst M hR hS (tG_f hA) j hi hj (by decide) hdg (fun H1 locs1 r1 r2 => ?_)
  rw [tG_af hA] at r1
  exact kk _ H1 locs1 tQ_f rfl rfl r1 r2
end TRow3
