/-! THE COMPONENT's STATE: its objects over a row of numbers F; stacks, sets of words -/
def fStk (F : Nat → Int32) (w : Int32) : Nat → List Nat
  | 0 => []
  | n + 1 => if fHf F w n then fStk F w n ++ [n] else fStk F w n
theorem stk_len (F : Nat → Int32) (w : Int32) : ∀ n, (fStk F w n).length = fCnt (fHf F w) 0 n
  | 0 => rfl
  | n + 1 => by
    unfold fStk
    by_cases h : fHf F w n = true
    · rw [if_pos h, cnt_1 h, List.length_append, stk_len F w n]; rfl
    · rw [if_neg h, cnt_0 (by simpa using h), stk_len F w n]
theorem stk_lt {F : Nat → Int32} {w : Int32} : ∀ {n o : Nat}, o ∈ fStk F w n → o < n ∧ fHf F w o = true
  | n + 1, o, h => by
    unfold fStk at h
    by_cases hq : fHf F w n = true
    · rw [if_pos hq, List.mem_append] at h
      rcases h with h | h
      · obtain ⟨h1, h2⟩ := stk_lt h; exact ⟨by omega, h2⟩
      · rw [List.mem_singleton] at h; subst h; exact ⟨Nat.lt_succ_self _, hq⟩
    · rw [if_neg hq] at h
      obtain ⟨h1, h2⟩ := stk_lt h; exact ⟨by omega, h2⟩
theorem stk_in {F : Nat → Int32} {w : Int32} : ∀ {n o : Nat}, o < n → fHf F w o = true → o ∈ fStk F w n
  | n + 1, o, h, hq => by
    unfold fStk
    by_cases e : o = n
    · subst e; rw [if_pos hq]; simp
    · have := stk_in (n := n) (by omega) hq
      split
      · exact List.mem_append_left _ this
      · exact this
/-- the ruling order is found going up the stack -/
def fRs (F : Nat → Int32) : List Nat → Option Nat → Option Nat
  | [], b => b
  | o :: L, b => fRs F L (if fBt F o b then some o else b)
theorem fRs_app (F : Nat → Int32) : ∀ (L M : List Nat) (b : Option Nat), fRs F (L ++ M) b = fRs F M (fRs F L b)
  | [], M, b => rfl
  | o :: L, M, b => fRs_app F L M _
theorem rul_stk (F : Nat → Int32) (w : Int32) : ∀ n, fRul F w n = fRs F (fStk F w n) none
  | 0 => rfl
  | n + 1 => by
    unfold fRul fStk
    by_cases h : fHf F w n = true
    · rw [if_pos h, fRs_app, ← rul_stk F w n, h, Bool.true_and]; rfl
    · rw [if_neg h, ← rul_stk F w n]
      rw [show fHf F w n = false by simpa using h, Bool.false_and]; rfl
theorem fRs_take {F : Nat → Int32} {L : List Nat} {k : Nat} (h : k < L.length) : fRs F (L.take (k + 1)) none = (if fBt F L[k] (fRs F (L.take k) none) then some L[k] else fRs F (L.take k) none) := by
  rw [List.take_succ_eq_append_getElem h, fRs_app]
  rfl
theorem fRs_mem {F : Nat → Int32} : ∀ {L : List Nat} {b : Option Nat} {o : Nat}, fRs F L b = some o → o ∈ L ∨ b = some o
  | [], b, o, h => Or.inr h
  | x :: L, b, o, h => by
    rcases fRs_mem (L := L) h with h1 | h1
    · exact Or.inl (List.mem_cons_of_mem _ h1)
    · split at h1
      · cases h1; exact Or.inl List.mem_cons_self
      · exact Or.inr h1
/-- an order's object -/
def oL (F E : Nat → Int32) (o : Nat) : List Value := [.int (nI o), .int (fo F o 0), .int (fo F o 1), .float (fNm F o), .float (fSg F o), .int (E o)]
def oE (F E : Nat → Int32) (o : Nat) : va_E := if fo F o 2 = -5 then .inr (3, oL F E o) else .inr (4, oL F E o ++ [.int (fo F o 2), .float (fFc F o)])
theorem oE_3 {F E : Nat → Int32} {o : Nat} (h : fo F o 2 = -5) : oE F E o = .inr (3, oL F E o) := if_pos h
theorem oE_4 {F E : Nat → Int32} {o : Nat} (h : ¬ fo F o 2 = -5) : oE F E o = .inr (4, oL F E o ++ [.int (fo F o 2), .float (fFc F o)]) := if_neg h
theorem oE_ob {F E : Nat → Int32} {o : Nat} : ∃ (ci : Nat) (fs : List Value), oE F E o = .inr (ci, fs) ∧ (ci = 3 ∨ ci = 4) := by
  by_cases h : fo F o 2 = -5
  · exact ⟨_, _, oE_3 h, Or.inl rfl⟩
  · exact ⟨_, _, oE_4 h, Or.inr rfl⟩
/-- a state's object, its ranks, its lists, its orders -/
def sR (K : gK) (G : gG) (a ra lo ls : Nat) (x y : Nat → Nat) (F E : Nat → Int32) (N : Nat) : Prop :=
  (N ≤ 40 ∧ (∀ o, o < N → ∃ w, w < 16 ∧ fo F o 1 = nI w) ∧ ∀ o, o < N → ∃ p, p < 6 ∧ fo F o 0 = nI p) ∧
  G a = some (.inl (.inr (1, [.ref ra, .ref lo, .ref ls, .float (F 5).toUInt32, .int (F 0), .int (F 4)]))) ∧
  (∃ rf, G ra = some (.inl (.inl (kC K 0, (6, .inl rf)))) ∧ ∀ p, p < 6 → rf p = F (6 + p)) ∧
  G lo = some (.inr (.inl ((List.range N).map x))) ∧
  G ls = some (.inr (.inl ((List.range 16).map y))) ∧
  (∀ w, w < 16 → G (y w) = some (.inr (.inl ((fStk F (nI w) N).map x)))) ∧
  (∀ o, o < N → G (x o) = some (.inl (oE F E o))) ∧
  (∀ o, o < N → (E o = 0 ↔ fHg F o = true) ∧ (E o = 0 ∨ E o = 1 ∨ E o = 2) ∧ (fo F o 2 = -5 → fo F o 3 = 1065353216)) ∧
  (∀ o o', o < N → o' < N → x o = x o' → o = o') ∧ (∀ w w', w < 16 → w' < 16 → y w = y w' → w = w') ∧ lo ≠ ls ∧ ∀ w, w < 16 → y w ≠ lo ∧ y w ≠ ls
def sA (a ra lo ls : Nat) (x y : Nat → Nat) (N : Nat) : Nat → Prop := fun b => b = a ∨ b = ra ∨ b = lo ∨ b = ls ∨ (∃ w, w < 16 ∧ b = y w) ∨ ∃ o, o < N ∧ b = x o
section SR
variable {K : gK} {G G1 : gG} {a ra lo ls : Nat} {x y : Nat → Nat} {F E : Nat → Int32} {N : Nat}
theorem sR.n40 (h : sR K G a ra lo ls x y F E N) : N ≤ 40 := h.1.1
theorem sR.word (h : sR K G a ra lo ls x y F E N) : ∀ o, o < N → ∃ w, w < 16 ∧ fo F o 1 = nI w := h.1.2.1
theorem sR.who (h : sR K G a ra lo ls x y F E N) : ∀ o, o < N → ∃ p, p < 6 ∧ fo F o 0 = nI p := h.1.2.2
theorem sR.obj (h : sR K G a ra lo ls x y F E N) : G a = some (.inl (.inr (1, [.ref ra, .ref lo, .ref ls, .float (F 5).toUInt32, .int (F 0), .int (F 4)]))) := h.2.1
theorem sR.ranks (h : sR K G a ra lo ls x y F E N) : ∃ rf, G ra = some (.inl (.inl (kC K 0, (6, .inl rf)))) ∧ ∀ p, p < 6 → rf p = F (6 + p) := h.2.2.1
theorem sR.orders (h : sR K G a ra lo ls x y F E N) : G lo = some (.inr (.inl ((List.range N).map x))) := h.2.2.2.1
theorem sR.stacks (h : sR K G a ra lo ls x y F E N) : G ls = some (.inr (.inl ((List.range 16).map y))) := h.2.2.2.2.1
theorem sR.stack (h : sR K G a ra lo ls x y F E N) : ∀ w, w < 16 → G (y w) = some (.inr (.inl ((fStk F (nI w) N).map x))) := h.2.2.2.2.2.1
theorem sR.order (h : sR K G a ra lo ls x y F E N) : ∀ o, o < N → G (x o) = some (.inl (oE F E o)) := h.2.2.2.2.2.2.1
theorem sR.fate (h : sR K G a ra lo ls x y F E N) : ∀ o, o < N → (E o = 0 ↔ fHg F o = true) ∧ (E o = 0 ∨ E o = 1 ∨ E o = 2) ∧ (fo F o 2 = -5 → fo F o 3 = 1065353216) := h.2.2.2.2.2.2.2.1
theorem sR.xi (h : sR K G a ra lo ls x y F E N) : ∀ o o', o < N → o' < N → x o = x o' → o = o' := h.2.2.2.2.2.2.2.2.1
theorem sR.yi (h : sR K G a ra lo ls x y F E N) : ∀ w w', w < 16 → w' < 16 → y w = y w' → w = w' := h.2.2.2.2.2.2.2.2.2.1
theorem sR.lol (h : sR K G a ra lo ls x y F E N) : lo ≠ ls := h.2.2.2.2.2.2.2.2.2.2.1
theorem sR.yl (h : sR K G a ra lo ls x y F E N) : ∀ w, w < 16 → y w ≠ lo ∧ y w ≠ ls := h.2.2.2.2.2.2.2.2.2.2.2
theorem sR.to (h : sR K G a ra lo ls x y F E N) (hG : ∀ b, sA a ra lo ls x y N b → G1 b = G b) : sR K G1 a ra lo ls x y F E N := by
  obtain ⟨h0, h1, ⟨rf, h2, h2b⟩, h3, h4, h5, h6, h7⟩ := h
  refine ⟨h0, ?_, ⟨rf, ?_, h2b⟩, ?_, ?_, fun w hw => ?_, fun o ho => ?_, h7⟩
  · rw [hG a (Or.inl rfl)]; exact h1
  · rw [hG ra (Or.inr (Or.inl rfl))]; exact h2
  · rw [hG lo (Or.inr (Or.inr (Or.inl rfl)))]; exact h3
  · rw [hG ls (Or.inr (Or.inr (Or.inr (Or.inl rfl))))]; exact h4
  · rw [hG (y w) (Or.inr (Or.inr (Or.inr (Or.inr (Or.inl ⟨w, hw, rfl⟩)))))]; exact h5 w hw
  · rw [hG (x o) (Or.inr (Or.inr (Or.inr (Or.inr (Or.inr ⟨o, ho, rfl⟩)))))]; exact h6 o ho
theorem sR.obO (h : sR K G a ra lo ls x y F E N) {o : Nat} (ho : o < N) : gOb G (x o) := by
  obtain ⟨ci, fs, e, h34⟩ := oE_ob (F := F) (E := E) (o := o)
  exact Or.inl ⟨ci, fs, by omega, by omega, by rw [h.order o ho, e]⟩
theorem sR.obX (h : sR K G a ra lo ls x y F E N) : ∀ b ∈ (List.range N).map x, gOb G b := by
  intro b hb
  obtain ⟨o, ho, rfl⟩ := List.mem_map.mp hb
  exact h.obO (List.mem_range.mp ho)
theorem sR.obS (h : sR K G a ra lo ls x y F E N) {w : Int32} : ∀ b ∈ (fStk F w N).map x, gOb G b := by
  intro b hb
  obtain ⟨o, ho, rfl⟩ := List.mem_map.mp hb
  exact h.obO (stk_lt ho).1
end SR
/-! sets of words as bits -/
def mS : List Nat → Nat
  | [] => 0
  | v :: L => mS L ||| 2 ^ v
theorem mS_bit : ∀ (L : List Nat) (v : Nat), (mS L).testBit v = decide (v ∈ L)
  | [], v => by simp [mS]
  | u :: L, v => by
    unfold mS
    rw [Nat.testBit_or, mS_bit L v, Nat.testBit_two_pow]
    by_cases h1 : v ∈ L <;> by_cases h2 : u = v <;> simp [h1, h2, eq_comm]
theorem mS_lt : ∀ (L : List Nat), (∀ v ∈ L, v < 16) → mS L < 65536
  | [], _ => by decide
  | u :: L, h => Nat.or_lt_two_pow (n := 16) (mS_lt L (fun v hv => h v (List.mem_cons_of_mem _ hv))) (Nat.pow_lt_pow_right (by decide) (h u List.mem_cons_self))
theorem sh31 : ∀ v, v < 16 → (nI v &&& 31 : Int32) = nI v := by decide +kernel
theorem one_shl : ∀ v, v < 16 → (1 : Int32) <<< (nI v &&& 31) = nI (2 ^ v) := by decide +kernel
theorem nI_bv {m : Nat} : (nI m).toBitVec = BitVec.ofNat 32 m := rfl
theorem or_nI {a b : Nat} (ha : a < 65536) (hb : b < 65536) : nI a ||| nI b = nI (a ||| b) := by
  apply Int32.toBitVec_inj.mp
  show (nI a).toBitVec ||| (nI b).toBitVec = _
  rw [nI_bv, nI_bv, nI_bv]
  apply BitVec.eq_of_toNat_eq
  rw [BitVec.toNat_or, BitVec.toNat_ofNat, BitVec.toNat_ofNat, BitVec.toNat_ofNat, Nat.mod_eq_of_lt (by omega), Nat.mod_eq_of_lt (by omega), Nat.mod_eq_of_lt (Nat.lt_of_lt_of_le (Nat.or_lt_two_pow (n := 16) ha hb) (by decide))]
theorem bt_o {L : List Nat} {v : Nat} (hL : ∀ u ∈ L, u < 16) (hv : v < 16) : nI (mS L) ||| ((1 : Int32) <<< (nI v &&& 31)) = nI (mS (v :: L)) := by
  rw [one_shl v hv, or_nI (mS_lt L hL) (Nat.pow_lt_pow_right (by decide) hv)]
  rfl
