/-! A STATE CHANGED: what stands of it behind a write -/
theorem hf_eq {F F' : Nat → Int32} {o : Nat} (h1 : fo F' o 1 = fo F o 1) (h6 : fo F' o 6 = fo F o 6) (w : Int32) : fHf F' w o = fHf F w o := by
  unfold fHf fHg
  rw [h1, h6]
theorem hg_eq {F F' : Nat → Int32} {o : Nat} (h6 : fo F' o 6 = fo F o 6) : fHg F' o = fHg F o := by
  unfold fHg
  rw [h6]
theorem stk_eq {F F' : Nat → Int32} {w : Int32} : ∀ {n : Nat}, (∀ o, o < n → fHf F' w o = fHf F w o) → fStk F' w n = fStk F w n
  | 0, _ => rfl
  | n + 1, h => by
    unfold fStk
    rw [h n (Nat.lt_succ_self _), stk_eq (fun o ho => h o (by omega))]
theorem oE_eq {F F' E E' : Nat → Int32} {o : Nat} (hk : ∀ k, k < 6 → fo F' o k = fo F o k) (hE : E' o = E o) : oE F' E' o = oE F E o := by
  unfold oE oL fNm fSg fFc
  rw [hk 0 (by decide), hk 1 (by decide), hk 2 (by decide), hk 3 (by decide), hk 4 (by decide), hk 5 (by decide), hE]
/-- a place of a row of addresses -/
def va_upN (x : Nat → Nat) (N q : Nat) : Nat → Nat := fun o => if o = N then q else x o
section Mut
variable {K : gK} {G G1 : gG} {a ra lo ls : Nat} {x y : Nat → Nat} {F F' E E' : Nat → Int32} {N : Nat}
/-- what a state's cells aren't -/
theorem sR.a_ne (h : sR K G a ra lo ls x y F E N) : ra ≠ a ∧ lo ≠ a ∧ ls ≠ a ∧ (∀ w, w < 16 → y w ≠ a) ∧ ∀ o, o < N → x o ≠ a := by
  obtain ⟨rf, hr, -⟩ := h.ranks
  refine ⟨fun e => ?_, fun e => ?_, fun e => ?_, fun w hw e => ?_, fun o ho e => ?_⟩
  · have := h.obj; rw [← e, hr] at this; cases this
  · have := h.obj; rw [← e, h.orders] at this; cases this
  · have := h.obj; rw [← e, h.stacks] at this; cases this
  · have := h.obj; rw [← e, h.stack w hw] at this; cases this
  · have h1 := h.obj
    obtain ⟨ci, fs, e1, h34⟩ := oE_ob (F := F) (E := E) (o := o)
    rw [← e, h.order o ho, e1] at h1
    cases h1
    omega
theorem sR.x_ne (h : sR K G a ra lo ls x y F E N) {o : Nat} (ho : o < N) : x o ≠ a ∧ x o ≠ ra ∧ x o ≠ lo ∧ x o ≠ ls ∧ ∀ w, w < 16 → x o ≠ y w := by
  obtain ⟨rf, hr, -⟩ := h.ranks
  obtain ⟨ci, fs, e1, h34⟩ := oE_ob (F := F) (E := E) (o := o)
  have hx := h.order o ho
  rw [e1] at hx
  refine ⟨(h.a_ne).2.2.2.2 o ho, fun e => ?_, fun e => ?_, fun e => ?_, fun w hw e => ?_⟩
  · rw [e, hr] at hx; cases hx
  · rw [e, h.orders] at hx; cases hx
  · rw [e, h.stacks] at hx; cases hx
  · rw [e, h.stack w hw] at hx; cases hx
theorem sR.y_ne (h : sR K G a ra lo ls x y F E N) {w : Nat} (hw : w < 16) : y w ≠ a ∧ y w ≠ ra ∧ y w ≠ lo ∧ y w ≠ ls := by
  obtain ⟨rf, hr, -⟩ := h.ranks
  refine ⟨(h.a_ne).2.2.2.1 w hw, fun e => ?_, (h.yl w hw).1, (h.yl w hw).2⟩
  have := h.stack w hw
  rw [e, hr] at this
  cases this
theorem sR.ra_ne (h : sR K G a ra lo ls x y F E N) : ra ≠ lo ∧ ra ≠ ls := by
  obtain ⟨rf, hr, -⟩ := h.ranks
  refine ⟨fun e => ?_, fun e => ?_⟩
  · rw [e, h.orders] at hr; cases hr
  · rw [e, h.stacks] at hr; cases hr
/-- the same state by another name of the row -/
theorem sR.row (h : sR K G a ra lo ls x y F E N) (h0 : F' 0 = F 0) (h4 : F' 4 = F 4) (h5 : F' 5 = F 5) (hr : ∀ p, p < 6 → F' (6 + p) = F (6 + p)) (hk : ∀ o k, o < N → k < 7 → fo F' o k = fo F o k) : sR K G a ra lo ls x y F' E N := by
  obtain ⟨⟨z1, z2, z3⟩, g1, ⟨rf, g2, g2b⟩, g3, g4, g5, g6, g7, g8⟩ := h
  refine ⟨⟨z1, fun o ho => by rw [hk o 1 ho (by decide)]; exact z2 o ho, fun o ho => by rw [hk o 0 ho (by decide)]; exact z3 o ho⟩, by rw [h0, h4, h5]; exact g1, ⟨rf, g2, fun p hp => by rw [hr p hp]; exact g2b p hp⟩, g3, g4, fun w hw => ?_, fun o ho => ?_, fun o ho => ?_, g8⟩
  · rw [stk_eq (fun o ho => hf_eq (hk o 1 ho (by decide)) (hk o 6 ho (by decide)) (nI w))]; exact g5 w hw
  · rw [oE_eq (F := F) (E := E) (fun k hk7 => hk o k ho (by omega)) rfl]; exact g6 o ho
  · rw [hg_eq (hk o 6 ho (by decide)), hk o 2 ho (by decide), hk o 3 ho (by decide)]; exact g7 o ho
/-- an order's strength -/
theorem sR.str (h : sR K G a ra lo ls x y F E N) {o : Nat} (ho : o < N) (h0 : F' 0 = F 0) (h4 : F' 4 = F 4) (h5 : F' 5 = F 5) (hr : ∀ p, p < 6 → F' (6 + p) = F (6 + p)) (hk : ∀ o' k, o' < N → k < 7 → ¬ (o' = o ∧ k = 5) → fo F' o' k = fo F o' k) : sR K (oU G (x o) (.inl (oE F' E o))) a ra lo ls x y F' E N := by
  obtain ⟨n1, n2, n3, n4, n5⟩ := h.x_ne ho
  have hxi := h.xi
  obtain ⟨⟨z1, z2, z3⟩, g1, ⟨rf, g2, g2b⟩, g3, g4, g5, g6, g7, g8⟩ := h
  have hq : ∀ o' k, o' < N → k < 7 → k ≠ 5 → fo F' o' k = fo F o' k := fun o' k h1 h2 h3 => hk o' k h1 h2 (fun z => h3 z.2)
  refine ⟨⟨z1, fun o ho => by rw [hq o 1 ho (by decide) (by decide)]; exact z2 o ho, fun o ho => by rw [hq o 0 ho (by decide) (by decide)]; exact z3 o ho⟩, by rw [oU_n n1.symm, h0, h4, h5]; exact g1, ⟨rf, by rw [oU_n n2.symm]; exact g2, fun p hp => by rw [hr p hp]; exact g2b p hp⟩, by rw [oU_n n3.symm]; exact g3, by rw [oU_n n4.symm]; exact g4, fun w hw => ?_, fun o' ho' => ?_, fun o ho => ?_, g8⟩
  · rw [oU_n (n5 w hw).symm, stk_eq (fun o ho => hf_eq (hq o 1 ho (by decide) (by decide)) (hq o 6 ho (by decide) (by decide)) (nI w))]; exact g5 w hw
  · by_cases e : o' = o
    · subst e; exact oU_s
    · rw [oU_n (fun z => e (hxi _ _ ho' ho z)), oE_eq (F := F) (E := E) (fun k hk7 => hk o' k ho' (by omega) (fun z => e z.1)) rfl]
      exact g6 o' ho'
  · rw [hg_eq (hq o 6 ho (by decide) (by decide)), hq o 2 ho (by decide) (by decide), hq o 3 ho (by decide) (by decide)]; exact g7 o ho
/-- its scalars -/
theorem sR.scal (h : sR K G a ra lo ls x y F E N) (hr : ∀ p, p < 6 → F' (6 + p) = F (6 + p)) (hk : ∀ o k, o < N → k < 7 → fo F' o k = fo F o k) : sR K (oU G a (.inl (.inr (1, [.ref ra, .ref lo, .ref ls, .float (F' 5).toUInt32, .int (F' 0), .int (F' 4)])))) a ra lo ls x y F' E N := by
  obtain ⟨n1, n2, n3, n4, n5⟩ := h.a_ne
  obtain ⟨⟨z1, z2, z3⟩, g1, ⟨rf, g2, g2b⟩, g3, g4, g5, g6, g7, g8⟩ := h
  refine ⟨⟨z1, fun o ho => by rw [hk o 1 ho (by decide)]; exact z2 o ho, fun o ho => by rw [hk o 0 ho (by decide)]; exact z3 o ho⟩, oU_s, ⟨rf, by rw [oU_n n1]; exact g2, fun p hp => by rw [hr p hp]; exact g2b p hp⟩, by rw [oU_n n2]; exact g3, by rw [oU_n n3]; exact g4, fun w hw => ?_, fun o ho => ?_, fun o ho => ?_, g8⟩
  · rw [oU_n (n4 w hw), stk_eq (fun o ho => hf_eq (hk o 1 ho (by decide)) (hk o 6 ho (by decide)) (nI w))]; exact g5 w hw
  · rw [oU_n (n5 o ho), oE_eq (F := F) (E := E) (fun k hk7 => hk o k ho (by omega)) rfl]; exact g6 o ho
  · rw [hg_eq (hk o 6 ho (by decide)), hk o 2 ho (by decide), hk o 3 ho (by decide)]; exact g7 o ho
/-- its ranks -/
theorem sR.rnk (h : sR K G a ra lo ls x y F E N) {rf : Nat → Int32} (h0 : F' 0 = F 0) (h4 : F' 4 = F 4) (h5 : F' 5 = F 5) (hr : ∀ p, p < 6 → rf p = F' (6 + p)) (hk : ∀ o k, o < N → k < 7 → fo F' o k = fo F o k) : sR K (oU G ra (.inl (.inl (kC K 0, (6, .inl rf))))) a ra lo ls x y F' E N := by
  obtain ⟨m1, m2⟩ := h.ra_ne
  have hxn := fun o ho => (h.x_ne (o := o) ho).2.1
  have hyn := fun w hw => (h.y_ne (w := w) hw).2.1
  have han := h.a_ne.1
  obtain ⟨⟨z1, z2, z3⟩, g1, -, g3, g4, g5, g6, g7, g8⟩ := h
  refine ⟨⟨z1, fun o ho => by rw [hk o 1 ho (by decide)]; exact z2 o ho, fun o ho => by rw [hk o 0 ho (by decide)]; exact z3 o ho⟩, by rw [oU_n han.symm, h0, h4, h5]; exact g1, ⟨rf, oU_s, hr⟩, by rw [oU_n m1.symm]; exact g3, by rw [oU_n m2.symm]; exact g4, fun w hw => ?_, fun o ho => ?_, fun o ho => ?_, g8⟩
  · rw [oU_n (hyn w hw), stk_eq (fun o ho => hf_eq (hk o 1 ho (by decide)) (hk o 6 ho (by decide)) (nI w))]; exact g5 w hw
  · rw [oU_n (hxn o ho), oE_eq (F := F) (E := E) (fun k hk7 => hk o k ho (by omega)) rfl]; exact g6 o ho
  · rw [hg_eq (hk o 6 ho (by decide)), hk o 2 ho (by decide), hk o 3 ho (by decide)]; exact g7 o ho
/-- an order off its stack -/
theorem stk_off {o : Nat} {w : Int32} (hq : fHf F w o = true) (h : ∀ o', fHf F' w o' = if o' = o then false else fHf F w o') : ∀ {n : Nat}, o < n → fStk F' w n = (fStk F w n).eraseIdx (fCnt (fHf F w) 0 o)
  | n + 1, hn => by
    have hs : ∀ m, m ≤ o → fStk F' w m = fStk F w m := fun m hm => stk_eq (fun o' ho' => by rw [h o', if_neg (by omega)])
    have e1 : fStk F' w (n + 1) = if fHf F' w n then fStk F' w n ++ [n] else fStk F' w n := rfl
    have e2 : fStk F w (n + 1) = if fHf F w n then fStk F w n ++ [n] else fStk F w n := rfl
    rw [e1, e2]
    by_cases e : o = n
    · subst e
      have h1 : fHf F' w o = false := by rw [h o, if_pos rfl]
      rw [h1, if_neg (by decide), if_pos hq, hs o (Nat.le_refl _), ← stk_len F w o, List.eraseIdx_append_of_length_le (Nat.le_refl _), Nat.sub_self]
      simp
    · have h1 : fHf F' w n = fHf F w n := by rw [h n, if_neg (fun z => e z.symm)]
      have hl := (List.getElem?_eq_some_iff.mp (stk_at hq (n := n) (by omega))).1
      rw [h1, stk_off hq h (n := n) (by omega)]
      by_cases c : fHf F w n = true
      · rw [if_pos c, if_pos c, List.eraseIdx_append_of_lt_length hl]
      · rw [if_neg c, if_neg c]
theorem sR.off (h : sR K G a ra lo ls x y F E N) {o w : Nat} (ho : o < N) (hh : fHg F o = true) (hw : fo F o 1 = nI w) (hw16 : w < 16) (hE : E' o = 1 ∨ E' o = 2) (hEo : ∀ o', o' ≠ o → E' o' = E o') (h0 : F' 0 = F 0) (h4 : F' 4 = F 4) (h5 : F' 5 = F 5) (hr : ∀ p, p < 6 → F' (6 + p) = F (6 + p)) (hk : ∀ o' k, k < 7 → fo F' o' k = if o' = o ∧ k = 6 then 0 else fo F o' k) :
    sR K (oU (oU G (x o) (.inl (oE F' E' o))) (y w) (.inr (.inl (((fStk F (nI w) N).eraseIdx (fCnt (fHf F (nI w)) 0 o)).map x)))) a ra lo ls x y F' E' N := by
  obtain ⟨n1, n2, n3, n4, n5⟩ := h.x_ne ho
  obtain ⟨m1, m2, m3, m4⟩ := h.y_ne hw16
  have hxi := h.xi
  have hyi := h.yi
  have hxy := fun o' ho' => (h.x_ne (o := o') ho').2.2.2.2 w hw16
  have hword := h.word
  obtain ⟨⟨z1, z2, z3⟩, g1, ⟨rf, g2, g2b⟩, g3, g4, g5, g6, g7, g8⟩ := h
  have hq : ∀ o' k, k < 6 → fo F' o' k = fo F o' k := fun o' k h1 => by rw [hk o' k (by omega)]; exact if_neg (fun z => by omega)
  have h6 : ∀ o', o' ≠ o → fo F' o' 6 = fo F o' 6 := fun o' h1 => by rw [hk o' 6 (by decide)]; exact if_neg (fun z => h1 z.1)
  have h6o : fHg F' o = false := by unfold fHg; rw [hk o 6 (by decide), if_pos ⟨rfl, rfl⟩]; rfl
  have hfo : fHf F (nI w) o = true := by unfold fHf; rw [hh, hw, decide_eq_true rfl]; rfl
  have hst : ∀ o', fHf F' (nI w) o' = if o' = o then false else fHf F (nI w) o' := by
    intro o'
    by_cases e : o' = o
    · subst e; rw [if_pos rfl]; unfold fHf; rw [h6o]; rfl
    · rw [if_neg e]; exact hf_eq (hq o' 1 (by decide)) (h6 o' e) _
  refine ⟨⟨z1, fun o ho => by rw [hq o 1 (by decide)]; exact z2 o ho, fun o ho => by rw [hq o 0 (by decide)]; exact z3 o ho⟩, by rw [oU_n m1.symm, oU_n n1.symm, h0, h4, h5]; exact g1, ⟨rf, by rw [oU_n m2.symm, oU_n n2.symm]; exact g2, fun p hp => by rw [hr p hp]; exact g2b p hp⟩, by rw [oU_n m3.symm, oU_n n3.symm]; exact g3, by rw [oU_n m4.symm, oU_n n4.symm]; exact g4, fun w' hw' => ?_, fun o' ho' => ?_, fun o' ho' => ?_, g8⟩
  · by_cases e : w' = w
    · subst e
      rw [oU_s, stk_off hfo hst ho]
    · rw [oU_n (fun z => e (hyi _ _ hw' hw16 z)), oU_n (n5 w' hw').symm]
      have hs2 : fStk F' (nI w') N = fStk F (nI w') N := stk_eq (fun o' ho' => by
        by_cases e2 : o' = o
        · subst e2
          unfold fHf
          rw [h6o, hw, decide_eq_false (fun z => e ((nI_eq (by omega) (by omega)).mp z).symm), Bool.and_false]
          rfl
        · exact hf_eq (hq o' 1 (by decide)) (h6 o' e2) _)
      rw [hs2]
      exact g5 w' hw'
  · rw [oU_n (hxy o' ho')]
    by_cases e : o' = o
    · subst e; exact oU_s
    · rw [oU_n (fun z => e (hxi _ _ ho' ho z)), oE_eq (F := F) (E := E) (fun k hk7 => hq o' k hk7) (hEo o' e)]
      exact g6 o' ho'
  · by_cases e : o' = o
    · subst e
      refine ⟨⟨fun z => ?_, fun z => by rw [h6o] at z; cases z⟩, Or.inr hE, fun z => ?_⟩
      · rcases hE with q | q <;> (rw [q] at z; exact absurd z (by decide))
      · rw [hq o' 2 (by decide)] at z; rw [hq o' 3 (by decide)]; exact (g7 o' ho').2.2 z
    · rw [hg_eq (h6 o' e), hEo o' e, hq o' 2 (by decide), hq o' 3 (by decide)]
      exact g7 o' ho'
/-- an order more -/
theorem sR.hang (h : sR K G a ra lo ls x y F E N) (hN : N < 40) {q w : Nat} (hw : fo F' N 1 = nI w) (hw16 : w < 16) (hp : ∃ p, p < 6 ∧ fo F' N 0 = nI p) (hq : G q = some (.inl (oE F' E' N))) (hqx : ∀ o, o < N → x o ≠ q) (h6 : fHg F' N = true) (hE : E' N = 0) (hEo : ∀ o', o' < N → E' o' = E o') (h0 : F' 0 = F 0) (h4 : F' 4 = F 4) (h5 : F' 5 = F 5) (hr : ∀ p, p < 6 → F' (6 + p) = F (6 + p)) (hk : ∀ o' k, o' < N → k < 7 → fo F' o' k = fo F o' k) (h1 : fo F' N 2 = -5 → fo F' N 3 = 1065353216) :
    sR K (oU (oU G lo (.inr (.inl ((List.range N).map x ++ [q])))) (y w) (.inr (.inl ((fStk F (nI w) N).map x ++ [q])))) a ra lo ls (va_upN x N q) y F' E' (N + 1) := by
  obtain ⟨m1, m2, m3, m4⟩ := h.y_ne hw16
  have hxi := h.xi
  have hyi := h.yi
  have hyn := fun w' hw' => (h.y_ne (w := w') hw').2.2.1
  have hxn := fun o' ho' => h.x_ne (o := o') ho'
  have hlol := h.lol
  obtain ⟨k1, k2, k3, -⟩ := h.a_ne
  obtain ⟨r1, r2⟩ := h.ra_ne
  obtain ⟨ci, fs, e1, h34⟩ := oE_ob (F := F') (E := E') (o := N)
  obtain ⟨⟨z1, z2, z3⟩, g1, ⟨rf, g2, g2b⟩, g3, g4, g5, g6, g7, g8⟩ := h
  have hqlo : q ≠ lo := fun z => by rw [z, g3] at hq; cases hq
  have hqy : q ≠ y w := fun z => by rw [z, g5 w hw16] at hq; cases hq
  have hup : ∀ o, o < N → va_upN x N q o = x o := fun o ho => if_neg (by omega)
  have hupN : va_upN x N q N = q := if_pos rfl
  have hmap : ∀ (L : List Nat), (∀ o ∈ L, o < N) → L.map (va_upN x N q) = L.map x := fun L hL => List.map_congr_left (fun o ho => hup o (hL o ho))
  refine ⟨⟨hN, fun o ho => ?_, fun o ho => ?_⟩, by rw [oU_n m1.symm, oU_n k2.symm, h0, h4, h5]; exact g1, ⟨rf, by rw [oU_n m2.symm, oU_n r1]; exact g2, fun p hp => by rw [hr p hp]; exact g2b p hp⟩, ?_, by rw [oU_n m4.symm, oU_n hlol.symm]; exact g4, fun w' hw' => ?_, fun o ho => ?_, fun o ho => ?_, fun o o' ho ho' e => ?_, g8.2⟩
  · by_cases e : o = N
    · rw [e]; exact ⟨w, hw16, hw⟩
    · rw [hk o 1 (by omega) (by decide)]; exact z2 o (by omega)
  · by_cases e : o = N
    · rw [e]; exact hp
    · rw [hk o 0 (by omega) (by decide)]; exact z3 o (by omega)
  · rw [oU_n m3.symm, oU_s, List.range_succ, List.map_append, hmap _ (fun o ho => List.mem_range.mp ho)]
    show _ = some (Sum.inr (Sum.inl (_ ++ [va_upN x N q N])))
    rw [hupN]
  · have hs : fStk F' (nI w') N = fStk F (nI w') N := stk_eq (fun o ho => hf_eq (hk o 1 ho (by decide)) (hk o 6 ho (by decide)) _)
    have hN1 : fStk F' (nI w') (N + 1) = if fHf F' (nI w') N then fStk F (nI w') N ++ [N] else fStk F (nI w') N := by
      conv => lhs; unfold fStk
      rw [hs]
    have hq2 : fHf F' (nI w') N = decide (w = w') := by
      unfold fHf
      rw [h6, hw, Bool.true_and]
      exact decide_eq_decide.mpr (nI_eq (by omega) (by omega))
    rw [hN1, hq2]
    by_cases e : w' = w
    · subst e
      rw [oU_s, if_pos (by simp), List.map_append, hmap _ (fun o ho => (stk_lt ho).1)]
      show _ = some (Sum.inr (Sum.inl (_ ++ [va_upN x N q N])))
      rw [hupN]
    · rw [oU_n (fun z => e (hyi _ _ hw' hw16 z)), oU_n (hyn w' hw'), if_neg (by simp; exact fun z => e z.symm), hmap _ (fun o ho => (stk_lt ho).1)]
      exact g5 w' hw'
  · by_cases e : o = N
    · subst e
      rw [hupN, oU_n hqy, oU_n hqlo]; exact hq
    · have ho2 : o < N := by omega
      obtain ⟨p1, p2, p3, p4, p5⟩ := hxn o ho2
      rw [hup o ho2, oU_n (p5 w hw16), oU_n p3, oE_eq (F := F) (E := E) (fun k hk7 => hk o k ho2 (by omega)) (hEo o ho2)]
      exact g6 o ho2
  · by_cases e : o = N
    · subst e
      exact ⟨⟨fun _ => h6, fun _ => hE⟩, Or.inl hE, h1⟩
    · have ho2 : o < N := by omega
      rw [hg_eq (hk o 6 ho2 (by decide)), hEo o ho2, hk o 2 ho2 (by decide), hk o 3 ho2 (by decide)]
      exact g7 o ho2
  · by_cases e1 : o = N <;> by_cases e2 : o' = N
    · omega
    · rw [e1, hupN, hup o' (by omega)] at e
      exact absurd e.symm (hqx o' (by omega))
    · rw [e2, hupN, hup o (by omega)] at e
      exact absurd e (hqx o (by omega))
    · rw [hup o (by omega), hup o' (by omega)] at e
      exact hxi o o' (by omega) (by omega) e
end Mut
theorem sR.some {K : gK} {G : gG} {a ra lo ls : Nat} {x y : Nat → Nat} {F E : Nat → Int32} {N : Nat} (h : sR K G a ra lo ls x y F E N) {b : Nat} (hb : sA a ra lo ls x y N b) : G b ≠ none := by
  obtain ⟨rf, hr, -⟩ := h.ranks
  rcases hb with e | e | e | e | ⟨w, hw, e⟩ | ⟨o, ho, e⟩
  · rw [e, h.obj]; exact fun z => by cases z
  · rw [e, hr]; exact fun z => by cases z
  · rw [e, h.orders]; exact fun z => by cases z
  · rw [e, h.stacks]; exact fun z => by cases z
  · rw [e, h.stack w hw]; exact fun z => by cases z
  · rw [e, h.order o ho]; exact fun z => by cases z
theorem sR.fresh {K : gK} {G : gG} {a ra lo ls : Nat} {x y : Nat → Nat} {F E : Nat → Int32} {N : Nat} (h : sR K G a ra lo ls x y F E N) {q : Nat} (hq : G q = none) (z : gE) : sR K (oU G q z) a ra lo ls x y F E N :=
  h.to (fun b hb => oU_n (fun e => h.some hb (e ▸ hq)))
theorem gOb.rawU {G : gG} {v b ci : Nat} {fs : List Value} (h : gOb G v) (hc : ci < 10) (h6 : ci ≠ 6) : gOb (oU G b (.inl (.inr (ci, fs)))) v := by
  by_cases e : v = b
  · subst e; exact Or.inl ⟨ci, fs, hc, h6, oU_s⟩
  · exact h.upd e
theorem gOb.lstU {G : gG} {v b : Nat} {z : List Nat ⊕ List Nat} (h : gOb G v) : gOb (oU G b (.inr z)) v := by
  by_cases e : v = b
  · subst e; exact Or.inr ⟨z, oU_s⟩
  · exact h.upd e
theorem gOb.oEU {G : gG} {v b o : Nat} {F E : Nat → Int32} (h : gOb G v) : gOb (oU G b (.inl (oE F E o))) v := by
  obtain ⟨ci, fs, e, h34⟩ := oE_ob (F := F) (E := E) (o := o)
  rw [e]
  exact h.rawU (by omega) (by omega)
theorem nl_fo {F : Nat → Int32} {N : Nat} {p w link fac num str : Int32} {o k : Nat} (hk : k < 7) : fo (fNl F N p w link fac num str) o k = if o = N then (if k = 0 then p else if k = 1 then w else if k = 2 then link else if k = 3 then fac else if k = 4 then num else if k = 5 then str else 1) else fo F o k := by
  unfold fNl
  rw [fo_lo (by decide), fo_up (by decide) hk, fo_up (by decide) hk, fo_up (by decide) hk, fo_up (by decide) hk, fo_up (by decide) hk, fo_up (by decide) hk, fo_up (by decide) hk]
  by_cases e : o = N
  · simp only [e, true_and, if_true]
    rcases (by omega : k = 0 ∨ k = 1 ∨ k = 2 ∨ k = 3 ∨ k = 4 ∨ k = 5 ∨ k = 6) with q | q | q | q | q | q | q <;> subst q <;> rfl
  · simp only [e, false_and, if_false]
theorem nl_lo {F : Nat → Int32} {N : Nat} {p w link fac num str : Int32} {i : Nat} (hi : i < 12) (h1 : i ≠ 1) : fNl F N p w link fac num str i = F i := by
  unfold fNl
  rw [up_lo h1, up_lo (by omega), up_lo (by omega), up_lo (by omega), up_lo (by omega), up_lo (by omega), up_lo (by omega), up_lo (by omega)]
def eN (E : Nat → Int32) (N : Nat) (v : Int32) : Nat → Int32 := fun o => if o = N then v else E o
theorem er_map {L : List Nat} {x : Nat → Nat} {k : Nat} : (L.map x).eraseIdx k = (L.eraseIdx k).map x := by
  induction L generalizing k with
  | nil => rfl
  | cons a L ih =>
    cases k with
    | zero => rfl
    | succ k => show x a :: (L.map x).eraseIdx k = x a :: (L.eraseIdx k).map x; rw [ih]
theorem s1_at {F : Nat → Int32} {N j : Nat} {f : UInt32} (h : fHg F j = true) : fo (fS1 F N f (j + 1)) j 5 = fBlw F N f j := by
  unfold fS1
  rw [fo_fW (by decide), if_pos ⟨rfl, Nat.lt_succ_self _, h⟩]
theorem s1_s {F : Nat → Int32} {N j o k : Nat} {f : UInt32} (hk : k < 7) (h : ¬ (o = j ∧ k = 5)) : fo (fS1 F N f (j + 1)) o k = fo (fS1 F N f j) o k := by
  unfold fS1
  rw [fo_fW hk, fo_fW hk]
  by_cases c : k = 5 ∧ o < j ∧ fHg F o = true
  · rw [if_pos c, if_pos ⟨c.1, by omega, c.2.2⟩]
  · rw [if_neg c, if_neg (fun z => c ⟨z.1, by omega, z.2.2⟩)]
theorem over_1 {F : Nat → Int32} {o N L : Nat} {w : Int32} (ho : o < N) (hq : fHf F w o = true) (hL : L = fCnt (fHf F w) 0 N) : 1 + nI (L - 1 - fCnt (fHf F w) 0 o) = nI (fCnt (fHf F w) o (N - o)) := by
  have h1 := cnt_add (fHf F w) 0 o (N - o)
  rw [show o + (N - o) = N by omega, Nat.zero_add] at h1
  have h2 := cnt_pos hq (N - o) (by omega)
  show nI 1 + _ = _
  rw [nI_add]
  congr 1
  omega
theorem frU {G G9 : gG} {a ra lo ls : Nat} {x y : Nat → Nat} {N b0 : Nat} {z : gE} (h : ∀ b, ¬ sA a ra lo ls x y N b → G9 b = G b) (hb : sA a ra lo ls x y N b0) : ∀ b, ¬ sA a ra lo ls x y N b → oU G9 b0 z b = G b :=
  fun b hn => (oU_n (fun e : b = b0 => hn (by rw [e]; exact hb))).trans (h b hn)
theorem frC {G G9 G1 : gG} {a ra lo ls : Nat} {x y : Nat → Nat} {N : Nat} (h : ∀ b, ¬ sA a ra lo ls x y N b → G9 b = G b) (h1 : ∀ b, ¬ sA a ra lo ls x y N b → G1 b = G9 b) : ∀ b, ¬ sA a ra lo ls x y N b → G1 b = G b :=
  fun b hn => (h1 b hn).trans (h b hn)
theorem efN {E E9 : Nat → Int32} {q : Nat → Bool} {j : Nat} (h : ∀ o, E9 o = if o < j ∧ q o = true then 1 else E o) (hq : q j = false) : ∀ o, E9 o = if o < j + 1 ∧ q o = true then 1 else E o := by
  intro o
  rw [h o]
  by_cases c : o < j ∧ q o = true
  · rw [if_pos c, if_pos ⟨by omega, c.2⟩]
  · rw [if_neg c, if_neg (fun z => c ⟨by
      have : o ≠ j := fun e => by rw [e, hq] at z; exact absurd z.2 (by decide)
      omega, z.2⟩)]
theorem efT {E E9 : Nat → Int32} {q : Nat → Bool} {j : Nat} (h : ∀ o, E9 o = if o < j ∧ q o = true then 1 else E o) (hq : q j = true) : ∀ o, eN E9 j 1 o = if o < j + 1 ∧ q o = true then 1 else E o := by
  intro o
  unfold eN
  by_cases e : o = j
  · subst e
    rw [if_pos rfl, if_pos ⟨Nat.lt_succ_self _, hq⟩]
  · rw [if_neg e, h o]
    by_cases c : o < j ∧ q o = true
    · rw [if_pos c, if_pos ⟨by omega, c.2⟩]
    · rw [if_neg c, if_neg (fun z => c ⟨by omega, z.2⟩)]
theorem st_lo {F : Nat → Int32} {N i : Nat} {f : UInt32} (hi : i < 12) (h2 : i ≠ 2) (h4 : i ≠ 4) : fSt F N f i = fS2 (fS1 F N f N) N i := by
  unfold fSt
  rw [up_lo h4, up_lo h2]
theorem st_4 {F : Nat → Int32} {N : Nat} {f : UInt32} : fSt F N f 4 = fS2 (fS1 F N f N) N 4 + 1 := by
  unfold fSt
  rw [up_at, show fS2 (fS1 F N f N) N 4 = F 4 from (fW_lo (by decide)).trans (fW_lo (by decide))]
