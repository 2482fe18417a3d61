/-! A STATE IN THE MAKING: n orders, stacks as they are -/
def sP (K : gK) (G : gG) (a ra lo lt : Nat) (x y : Nat → Nat) (F E : Nat → Int32) (n : Nat) (st : Nat → List Nat) (t : UInt32) (p s : Int32) (rf : Nat → Int32) : Prop :=
  G a = some (.inl (.inr (1, [.ref ra, .ref lo, .ref lt, .float t, .int p, .int s]))) ∧ G ra = some (.inl (.inl (kC K 0, (6, .inl rf)))) ∧ G lo = some (.inr (.inl ((List.range n).map x))) ∧ G lt = some (.inr (.inl ((List.range 16).map y))) ∧
  (∀ w, w < 16 → G (y w) = some (.inr (.inl ((st w).map x)))) ∧ (∀ o, o < n → G (x o) = some (.inl (oE F E o))) ∧ (∀ o o', o < n → o' < n → x o = x o' → o = o') ∧ (∀ w w', w < 16 → w' < 16 → y w = y w' → w = w') ∧ lo ≠ lt ∧ (∀ w, w < 16 → y w ≠ lo ∧ y w ≠ lt) ∧ ∀ w, w < 16 → ∀ o ∈ st w, o < n
section SP
variable {K : gK} {G G1 : gG} {a ra lo lt : Nat} {x y : Nat → Nat} {F E : Nat → Int32} {n : Nat} {st : Nat → List Nat} {t : UInt32} {p s : Int32} {rf : Nat → Int32}
theorem sP.obj (h : sP K G a ra lo lt x y F E n st t p s rf) : G a = some (.inl (.inr (1, [.ref ra, .ref lo, .ref lt, .float t, .int p, .int s]))) := h.1
theorem sP.ranks (h : sP K G a ra lo lt x y F E n st t p s rf) : G ra = some (.inl (.inl (kC K 0, (6, .inl rf)))) := h.2.1
theorem sP.orders (h : sP K G a ra lo lt x y F E n st t p s rf) : G lo = some (.inr (.inl ((List.range n).map x))) := h.2.2.1
theorem sP.stacks (h : sP K G a ra lo lt x y F E n st t p s rf) : G lt = some (.inr (.inl ((List.range 16).map y))) := h.2.2.2.1
theorem sP.stack (h : sP K G a ra lo lt x y F E n st t p s rf) : ∀ w, w < 16 → G (y w) = some (.inr (.inl ((st w).map x))) := h.2.2.2.2.1
theorem sP.order (h : sP K G a ra lo lt x y F E n st t p s rf) : ∀ o, o < n → G (x o) = some (.inl (oE F E o)) := h.2.2.2.2.2.1
theorem sP.xi (h : sP K G a ra lo lt x y F E n st t p s rf) : ∀ o o', o < n → o' < n → x o = x o' → o = o' := h.2.2.2.2.2.2.1
theorem sP.yi (h : sP K G a ra lo lt x y F E n st t p s rf) : ∀ w w', w < 16 → w' < 16 → y w = y w' → w = w' := h.2.2.2.2.2.2.2.1
theorem sP.lol (h : sP K G a ra lo lt x y F E n st t p s rf) : lo ≠ lt := h.2.2.2.2.2.2.2.2.1
theorem sP.yl (h : sP K G a ra lo lt x y F E n st t p s rf) : ∀ w, w < 16 → y w ≠ lo ∧ y w ≠ lt := h.2.2.2.2.2.2.2.2.2.1
theorem sP.stn (h : sP K G a ra lo lt x y F E n st t p s rf) : ∀ w, w < 16 → ∀ o ∈ st w, o < n := h.2.2.2.2.2.2.2.2.2.2
theorem sP.obO (h : sP K G a ra lo lt x y F E n st t p s rf) {o : Nat} (ho : o < n) : gOb G (x o) := by
  obtain ⟨ci, fs, e, h34⟩ := oE_ob (F := F) (E := E) (o := o)
  exact Or.inl ⟨ci, fs, by omega, by omega, by rw [h.order o ho, e]⟩
theorem sP.obX (h : sP K G a ra lo lt x y F E n st t p s rf) : ∀ b ∈ (List.range n).map x, gOb G b := by
  intro b hb
  obtain ⟨o, ho, rfl⟩ := List.mem_map.mp hb
  exact h.obO (List.mem_range.mp ho)
theorem sP.obL (h : sP K G a ra lo lt x y F E n st t p s rf) {w : Nat} (hw : w < 16) : ∀ b ∈ (st w).map x, gOb G b := by
  intro b hb
  obtain ⟨o, ho, rfl⟩ := List.mem_map.mp hb
  exact h.obO (h.stn w hw o ho)
theorem sP.some (h : sP K G a ra lo lt x y F E n st t p s rf) {b : Nat} (hb : sA a ra lo lt x y n b) : G b ≠ none := by
  rcases hb with e | e | e | e | ⟨w, hw, e⟩ | ⟨o, ho, e⟩
  · rw [e, h.obj]; exact fun z => by cases z
  · rw [e, h.ranks]; exact fun z => by cases z
  · rw [e, h.orders]; exact fun z => by cases z
  · rw [e, h.stacks]; exact fun z => by cases z
  · rw [e, h.stack w hw]; exact fun z => by cases z
  · rw [e, h.order o ho]; exact fun z => by cases z
theorem sP.to (h : sP K G a ra lo lt x y F E n st t p s rf) (hG : ∀ b, sA a ra lo lt x y n b → G1 b = G b) : sP K G1 a ra lo lt x y F E n st t p s rf := by
  obtain ⟨g1, g2, g3, g4, g5, g6, g7⟩ := h
  refine ⟨?_, ?_, ?_, ?_, fun w hw => ?_, fun o ho => ?_, g7⟩
  · rw [hG a (Or.inl rfl)]; exact g1
  · rw [hG ra (Or.inr (Or.inl rfl))]; exact g2
  · rw [hG lo (Or.inr (Or.inr (Or.inl rfl)))]; exact g3
  · rw [hG lt (Or.inr (Or.inr (Or.inr (Or.inl rfl))))]; exact g4
  · rw [hG (y w) (Or.inr (Or.inr (Or.inr (Or.inr (Or.inl ⟨w, hw, rfl⟩)))))]; exact g5 w hw
  · rw [hG (x o) (Or.inr (Or.inr (Or.inr (Or.inr (Or.inr ⟨o, ho, rfl⟩)))))]; exact g6 o ho
theorem sP.fresh (h : sP K G a ra lo lt x y F E n st t p s rf) {q : Nat} (hq : G q = none) (z : gE) : sP K (oU G q z) a ra lo lt x y F E n st t p s rf :=
  h.to (fun b hb => oU_n (fun e => h.some hb (e ▸ hq)))
/-- kinds keep cells apart -/
theorem sP.rank_ne (h : sP K G a ra lo lt x y F E n st t p s rf) : ra ≠ a ∧ ra ≠ lo ∧ ra ≠ lt ∧ (∀ w, w < 16 → y w ≠ ra) ∧ ∀ o, o < n → x o ≠ ra := by
  have hr := h.ranks
  refine ⟨fun e => ?_, fun e => ?_, fun e => ?_, fun w hw e => ?_, fun o ho e => ?_⟩
  · rw [e, h.obj] at hr; cases hr
  · rw [e, h.orders] at hr; cases hr
  · rw [e, h.stacks] at hr; cases hr
  · rw [← e, h.stack w hw] at hr; cases hr
  · obtain ⟨ci, fs, e1, h34⟩ := oE_ob (F := F) (E := E) (o := o)
    rw [← e, h.order o ho, e1] at hr; cases hr
theorem sP.obj_ne (h : sP K G a ra lo lt x y F E n st t p s rf) : lo ≠ a ∧ lt ≠ a ∧ (∀ w, w < 16 → y w ≠ a) ∧ ∀ o, o < n → x o ≠ a := by
  have hr := h.obj
  refine ⟨fun e => ?_, fun e => ?_, fun w hw e => ?_, fun o ho e => ?_⟩
  · rw [← e, h.orders] at hr; cases hr
  · rw [← e, h.stacks] at hr; cases hr
  · rw [← e, h.stack w hw] at hr; cases hr
  · obtain ⟨ci, fs, e1, h34⟩ := oE_ob (F := F) (E := E) (o := o)
    rw [← e, h.order o ho, e1] at hr; cases hr; omega
theorem sP.lst_ne (h : sP K G a ra lo lt x y F E n st t p s rf) {o : Nat} (ho : o < n) : x o ≠ lo ∧ x o ≠ lt ∧ ∀ w, w < 16 → x o ≠ y w := by
  obtain ⟨ci, fs, e1, h34⟩ := oE_ob (F := F) (E := E) (o := o)
  have hr := h.order o ho
  rw [e1] at hr
  refine ⟨fun e => ?_, fun e => ?_, fun w hw e => ?_⟩
  · rw [e, h.orders] at hr; cases hr
  · rw [e, h.stacks] at hr; cases hr
  · rw [e, h.stack w hw] at hr; cases hr
theorem sP.rnk (h : sP K G a ra lo lt x y F E n st t p s rf) (rf' : Nat → Int32) : sP K (oU G ra (.inl (.inl (kC K 0, (6, .inl rf'))))) a ra lo lt x y F E n st t p s rf' := by
  obtain ⟨n1, n2, n3, n4, n5⟩ := h.rank_ne
  obtain ⟨g1, g2, g3, g4, g5, g6, g7⟩ := h
  exact ⟨(oU_n n1.symm).trans g1, oU_s, (oU_n n2.symm).trans g3, (oU_n n3.symm).trans g4, fun w hw => (oU_n (n4 w hw)).trans (g5 w hw), fun o ho => (oU_n (n5 o ho)).trans (g6 o ho), g7⟩
theorem sP.scal (h : sP K G a ra lo lt x y F E n st t p s rf) (t' : UInt32) (p' s' : Int32) : sP K (oU G a (.inl (.inr (1, [.ref ra, .ref lo, .ref lt, .float t', .int p', .int s'])))) a ra lo lt x y F E n st t' p' s' rf := by
  obtain ⟨n1, -⟩ := h.rank_ne
  obtain ⟨n2, n3, n4, n5⟩ := h.obj_ne
  obtain ⟨g1, g2, g3, g4, g5, g6, g7⟩ := h
  exact ⟨oU_s, (oU_n n1).trans g2, (oU_n n2).trans g3, (oU_n n3).trans g4, fun w hw => (oU_n (n4 w hw)).trans (g5 w hw), fun o ho => (oU_n (n5 o ho)).trans (g6 o ho), g7⟩
/-- an order more, hung nowhere yet -/
theorem sP.push (h : sP K G a ra lo lt x y F E n st t p s rf) {q : Nat} (hq : G q = none) : sP K (oU (oU G q (.inl (oE F E n))) lo (.inr (.inl ((List.range n).map x ++ [q])))) a ra lo lt (va_upN x n q) y F E (n + 1) st t p s rf := by
  have hne : ∀ b, sA a ra lo lt x y n b → b ≠ q := fun b hb e => h.some hb (e ▸ hq)
  obtain ⟨n1, n2, n3, n4, n5⟩ := h.rank_ne
  obtain ⟨m1, m2, m3, m4⟩ := h.obj_ne
  have hlst := fun o ho => h.lst_ne (o := o) ho
  have hqlo : q ≠ lo := fun e => hne lo (Or.inr (Or.inr (Or.inl rfl))) e.symm
  have hup : ∀ o, o < n → va_upN x n q o = x o := fun o ho => if_neg (by omega)
  have hupN : va_upN x n q n = q := if_pos rfl
  have hmap : ∀ (L : List Nat), (∀ o ∈ L, o < n) → L.map (va_upN x n q) = L.map x := fun L hL => List.map_congr_left (fun o ho => hup o (hL o ho))
  obtain ⟨g1, g2, g3, g4, g5, g6, g7, g8, g9, g10, g11⟩ := h
  refine ⟨(oU_n m1.symm).trans ((oU_n (hne a (Or.inl rfl))).trans g1), (oU_n n2).trans ((oU_n (hne ra (Or.inr (Or.inl rfl)))).trans g2), ?_, (oU_n g9.symm).trans ((oU_n (hne lt (Or.inr (Or.inr (Or.inr (Or.inl rfl)))))).trans g4), fun w hw => ?_, fun o ho => ?_, fun o o' ho ho' e => ?_, g8, g9, g10, fun w hw o ho => Nat.lt_succ_of_lt (g11 w hw o ho)⟩
  · rw [oU_s, List.range_succ, List.map_append, hmap _ (fun o ho => List.mem_range.mp ho)]
    show _ = Option.some (Sum.inr (Sum.inl (_ ++ [va_upN x n q n])))
    rw [hupN]
  · rw [hmap _ (g11 w hw)]
    exact (oU_n (g10 w hw).1).trans ((oU_n (hne (y w) (Or.inr (Or.inr (Or.inr (Or.inr (Or.inl ⟨w, hw, rfl⟩))))))).trans (g5 w hw))
  · by_cases e : o = n
    · subst e
      rw [hupN]
      exact (oU_n hqlo).trans oU_s
    · have ho2 : o < n := by omega
      rw [hup o ho2]
      exact (oU_n (hlst o ho2).1).trans ((oU_n (hne (x o) (Or.inr (Or.inr (Or.inr (Or.inr (Or.inr ⟨o, ho2, rfl⟩))))))).trans (g6 o ho2))
  · by_cases e1 : o = n <;> by_cases e2 : o' = n
    · omega
    · rw [e1, hupN, hup o' (by omega)] at e
      exact absurd e.symm (hne _ (Or.inr (Or.inr (Or.inr (Or.inr (Or.inr ⟨o', by omega, rfl⟩))))))
    · rw [e2, hupN, hup o (by omega)] at e
      exact absurd e (hne _ (Or.inr (Or.inr (Or.inr (Or.inr (Or.inr ⟨o, by omega, rfl⟩))))))
    · rw [hup o (by omega), hup o' (by omega)] at e
      exact g7 o o' (by omega) (by omega) e
/-- an order hung on a stack -/
theorem sP.hang (h : sP K G a ra lo lt x y F E n st t p s rf) {w o : Nat} (hw : w < 16) (ho : o < n) : sP K (oU G (y w) (.inr (.inl ((st w).map x ++ [x o])))) a ra lo lt x y F E n (fun w' => if w' = w then st w ++ [o] else st w') t p s rf := by
  obtain ⟨n1, n2, n3, n4, n5⟩ := h.rank_ne
  obtain ⟨m1, m2, m3, m4⟩ := h.obj_ne
  have hlst := fun o ho => (h.lst_ne (o := o) ho).2.2
  obtain ⟨g1, g2, g3, g4, g5, g6, g7, g8, g9, g10, g11⟩ := h
  refine ⟨(oU_n (m3 w hw).symm).trans g1, (oU_n (n4 w hw).symm).trans g2, (oU_n (g10 w hw).1.symm).trans g3, (oU_n (g10 w hw).2.symm).trans g4, fun w' hw' => ?_, fun o' ho' => (oU_n (hlst o' ho' w hw)).trans (g6 o' ho'), g7, g8, g9, g10, fun w' hw' o' ho' => ?_⟩
  · dsimp only
    by_cases e : w' = w
    · subst e
      rw [if_pos rfl, oU_s, List.map_append]
      rfl
    · rw [if_neg e, oU_n (fun z => e (g8 _ _ hw' hw z))]
      exact g5 w' hw'
  · dsimp only at ho'
    by_cases e : w' = w
    · rw [if_pos e, List.mem_append] at ho'
      rcases ho' with q | q
      · exact g11 w hw o' q
      · rw [List.mem_singleton] at q; rw [q]; exact ho
    · rw [if_neg e] at ho'
      exact g11 w' hw' o' ho'
theorem sP.sts (h : sP K G a ra lo lt x y F E n st t p s rf) {st' : Nat → List Nat} (he : ∀ w, w < 16 → st' w = st w) : sP K G a ra lo lt x y F E n st' t p s rf := by
  obtain ⟨g1, g2, g3, g4, g5, g6, g7, g8, g9, g10, g11⟩ := h
  exact ⟨g1, g2, g3, g4, fun w hw => by rw [he w hw]; exact g5 w hw, g6, g7, g8, g9, g10, fun w hw o ho => g11 w hw o (by rw [← he w hw]; exact ho)⟩
end SP
/-- stacks so far: those of the words below w, k of w's -/
def stP (F : Nat → Int32) (N w k : Nat) : Nat → List Nat := fun w' => if w' < w then fStk F (nI w') N else if w' = w then (fStk F (nI w) N).take k else []
theorem stP_0 {F : Nat → Int32} {N w : Nat} : stP F N w 0 w = [] := by
  unfold stP
  rw [if_neg (Nat.lt_irrefl _), if_pos rfl]
  rfl
theorem stP_w {F : Nat → Int32} {N w k : Nat} : stP F N w k w = (fStk F (nI w) N).take k := by
  unfold stP
  rw [if_neg (Nat.lt_irrefl _), if_pos rfl]
theorem stP_s {F : Nat → Int32} {N w k : Nat} (hk : k < (fStk F (nI w) N).length) : ∀ w', stP F N w (k + 1) w' = if w' = w then stP F N w k w ++ [(fStk F (nI w) N)[k]] else stP F N w k w' := by
  intro w'
  by_cases e : w' = w
  · subst e
    rw [if_pos rfl, stP_w, stP_w, List.take_succ_eq_append_getElem hk]
  · rw [if_neg e]
    unfold stP
    by_cases c : w' < w
    · rw [if_pos c, if_pos c]
    · rw [if_neg c, if_neg c, if_neg e, if_neg e]
theorem stP_e {F : Nat → Int32} {N w : Nat} : ∀ w', stP F N (w + 1) 0 w' = stP F N w (fStk F (nI w) N).length w' := by
  intro w'
  unfold stP
  by_cases c : w' < w
  · rw [if_pos (by omega), if_pos c]
  · rw [if_neg c]
    by_cases e : w' = w
    · subst e
      rw [if_pos (Nat.lt_succ_self _), if_pos rfl, List.take_length]
    · rw [if_neg (by omega), if_neg e]
      by_cases e2 : w' = w + 1
      · rw [if_pos e2]; rfl
      · rw [if_neg e2]
theorem hn_le {F : Nat → Int32} {N : Nat} : ∀ (d w : Nat), fHn F N w ≤ fHn F N (w + d)
  | 0, w => Nat.le_refl _
  | d + 1, w => Nat.le_trans (hn_le d w) (Nat.le_add_right _ _)
/-- the state is made -/
theorem sP.done {K : gK} {G : gG} {a ra lo lt : Nat} {x y : Nat → Nat} {F E : Nat → Int32} {N : Nat} {rf : Nat → Int32} (h : sP K G a ra lo lt x y F E N (stP F N 16 0) (F 5).toUInt32 (F 0) (F 4) rf) (hrf : ∀ p, p < 6 → rf p = F (6 + p)) (hN : N ≤ 40) (hw : ∀ o, o < N → ∃ w, w < 16 ∧ fo F o 1 = nI w) (hp : ∀ o, o < N → ∃ p, p < 6 ∧ fo F o 0 = nI p) (hf : ∀ o, o < N → (E o = 0 ↔ fHg F o = true) ∧ (E o = 0 ∨ E o = 1 ∨ E o = 2) ∧ (fo F o 2 = -5 → fo F o 3 = 1065353216)) : sR K G a ra lo lt x y F E N := by
  obtain ⟨g1, g2, g3, g4, g5, g6, g7, g8, g9, g10, g11⟩ := h
  refine ⟨⟨hN, hw, hp⟩, g1, ⟨rf, g2, hrf⟩, g3, g4, fun w hw => ?_, g6, hf, g7, g8, g9, g10⟩
  rw [g5 w hw]
  unfold stP
  rw [if_pos hw]
theorem in_y {G G9 : gG} {a q24 q j : Nat} {y : Nat → Nat} {z1 z2 : gE} (hy : ∀ w, w < j → G9 (y w) = Option.some z1 ∧ G (y w) = none ∧ y w ≠ a) (hny : ∀ w, w < j → y w ≠ q) {q13 : Nat} (hyl : ∀ w, w < j → y w ≠ q13 ∧ y w ≠ q24) (g46 : G q = none) (hna : q ≠ a) (h24 : q ≠ q24) : ∀ w, w < j + 1 → oU (oU G9 q z1) q24 z2 (va_upN y j q w) = Option.some z1 ∧ G (va_upN y j q w) = none ∧ va_upN y j q w ≠ a := by
  intro w hw
  by_cases e : w = j
  · subst e
    rw [show va_upN y w q w = q from if_pos rfl]
    exact ⟨(oU_n h24).trans oU_s, g46, hna⟩
  · have h2 : w < j := by omega
    rw [show va_upN y j q w = y w from if_neg e]
    exact ⟨(oU_n (hyl w h2).2).trans ((oU_n (hny w h2)).trans (hy w h2).1), (hy w h2).2.1, (hy w h2).2.2⟩
theorem in_i {q j : Nat} {y : Nat → Nat} (hyi : ∀ w w9, w < j → w9 < j → y w = y w9 → w = w9) (hny : ∀ w, w < j → y w ≠ q) : ∀ w w9, w < j + 1 → w9 < j + 1 → va_upN y j q w = va_upN y j q w9 → w = w9 := by
  intro w w9 hw hw9 e
  by_cases e1 : w = j <;> by_cases e2 : w9 = j
  · omega
  · rw [show va_upN y j q w = q from if_pos e1, show va_upN y j q w9 = y w9 from if_neg e2] at e
    exact absurd e.symm (hny w9 (by omega))
  · rw [show va_upN y j q w9 = q from if_pos e2, show va_upN y j q w = y w from if_neg e1] at e
    exact absurd e (hny w (by omega))
  · rw [show va_upN y j q w = y w from if_neg e1, show va_upN y j q w9 = y w9 from if_neg e2] at e
    exact hyi w w9 (by omega) (by omega) e
theorem in_l {q13 q24 q j : Nat} {y : Nat → Nat} (hyl : ∀ w, w < j → y w ≠ q13 ∧ y w ≠ q24) (h13 : q ≠ q13) (h24 : q ≠ q24) : ∀ w, w < j + 1 → va_upN y j q w ≠ q13 ∧ va_upN y j q w ≠ q24 := by
  intro w hw
  by_cases e : w = j
  · rw [show va_upN y j q w = q from if_pos e]
    exact ⟨h13, h24⟩
  · rw [show va_upN y j q w = y w from if_neg e]
    exact hyl w (by omega)
theorem oU_stp (G : gG) (a : Nat) (v : gE) : ∃ G1 : gG, G1 = oU G a v ∧ G1 a = Option.some v ∧ ∀ b, b ≠ a → G1 b = G b := ⟨_, rfl, oU_s, fun b h => oU_n h⟩
theorem none_of {G G1 : gG} {a q : Nat} (hk : ∀ b, b ≠ a → G b ≠ none → G1 b = G b) (hq : G1 q = none) (hn : q ≠ a) : G q = none := by
  cases hg : G q with
  | none => rfl
  | some z =>
    rw [hk q hn (by rw [hg]; exact fun z => by cases z), hg] at hq
    cases hq
theorem map_up {y : Nat → Nat} {j q : Nat} : (List.range (j + 1)).map (va_upN y j q) = (List.range j).map y ++ [q] := by
  have h : (List.range j).map (va_upN y j q) = (List.range j).map y := List.map_congr_left (fun o ho => if_neg (by have := List.mem_range.mp ho; omega))
  rw [List.range_succ, List.map_append, h]
  show _ ++ [va_upN y j q j] = _
  rw [show va_upN y j q j = q from if_pos rfl]
theorem sA_0 {a ra lo lt b : Nat} {x x' y : Nat → Nat} (h : sA a ra lo lt x y 0 b) : sA a ra lo lt x' y 0 b := by
  rcases h with e | e | e | e | e | ⟨o, ho, e⟩
  · exact Or.inl e
  · exact Or.inr (Or.inl e)
  · exact Or.inr (Or.inr (Or.inl e))
  · exact Or.inr (Or.inr (Or.inr (Or.inl e)))
  · exact Or.inr (Or.inr (Or.inr (Or.inr (Or.inl e))))
  · omega
theorem sA_up {a ra lo lt b n q : Nat} {x y : Nat → Nat} (h : sA a ra lo lt (va_upN x n q) y (n + 1) b) : sA a ra lo lt x y n b ∨ b = q := by
  rcases h with e | e | e | e | e | ⟨o, ho, e⟩
  · exact Or.inl (Or.inl e)
  · exact Or.inl (Or.inr (Or.inl e))
  · exact Or.inl (Or.inr (Or.inr (Or.inl e)))
  · exact Or.inl (Or.inr (Or.inr (Or.inr (Or.inl e))))
  · exact Or.inl (Or.inr (Or.inr (Or.inr (Or.inr (Or.inl e)))))
  · by_cases c : o = n
    · rw [show va_upN x n q o = q from if_pos c] at e
      exact Or.inr e
    · rw [show va_upN x n q o = x o from if_neg c] at e
      exact Or.inl (Or.inr (Or.inr (Or.inr (Or.inr (Or.inr ⟨o, by omega, e⟩)))))
theorem none_2 {G G1 : gG} {q : Nat} (hk : ∀ b, G b ≠ none → G1 b = G b) (hq : G1 q = none) : G q = none := by
  cases hg : G q with
  | none => rfl
  | some z =>
    rw [hk q (by rw [hg]; exact fun z => by cases z), hg] at hq
    cases hq
theorem keep_u {G G1 : gG} {q : Nat} {z : gE} (hk : ∀ b, G b ≠ none → G1 b = G b) (hq : G q = none) : ∀ b, G b ≠ none → oU G1 q z b = G b :=
  fun b hb => (oU_n (fun e : b = q => hb (by rw [e]; exact hq))).trans (hk b hb)
theorem gOb.oE {G : gG} {q o : Nat} {F E : Nat → Int32} : gOb (oU G q (.inl (oE F E o))) q := by
  obtain ⟨ci, fs, e, h34⟩ := oE_ob (F := F) (E := E) (o := o)
  exact Or.inl ⟨ci, fs, by omega, by omega, by rw [oU_s, e]⟩
theorem stP_00 {F : Nat → Int32} {N : Nat} : ∀ w, stP F N 0 0 w = [] := by
  intro w
  unfold stP
  rw [if_neg (Nat.not_lt_zero _)]
  split
  · rfl
  · rfl
