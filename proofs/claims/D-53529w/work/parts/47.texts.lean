/-! TEXTS taken apart and shut over the ghost heap -/
/-- a text is taken apart -/
theorem gLf.openT {K : gK} {G : gG} {Rw : Nat → Option va_E} (h : gLf K G Rw) {a : Nat} {cs : List Nat} (ha : G a = some (.inr (.inr cs))) : ∃ (co ml : Int32) (cap : Nat) (f : Nat → Int32) (arr : Nat), sbOk cs co cap f ∧ arr ≠ a ∧ arr ≠ kE K ∧ G arr = none ∧ gLf K (oU (oU G arr (.inl (sbA K cap f))) a (.inl (sbF arr co ml cs.length))) Rw := by
  obtain ⟨ar, h1, h2, h3, h4, h5, h6, h7, h8⟩ := h
  obtain ⟨co, ml, cap, f, r1, r2, r3⟩ := h3 a cs ha
  have hne : ar a ≠ a := fun e => by
    rw [e, r1] at r2
    unfold sbF sbA at r2
    cases r2
  have hE : ar a ≠ kE K := fun e => by
    have q := h1 _ _ h6
    rw [e, q] at r2
    simp [alA, sbA] at r2
  have hG : G (ar a) = none := (h4 a _ ha).resolve_left hE
  have hae : a ≠ kE K := fun e => by rw [e, h6] at ha; cases ha
  have hb : ∀ (b : Nat) (y : List Nat ⊕ List Nat), oU (oU G (ar a) (.inl (sbA K cap f))) a (.inl (sbF (ar a) co ml cs.length)) b = some (.inr y) → b ≠ a ∧ b ≠ ar a ∧ G b = some (.inr y) := by
    intro b y hb
    by_cases e : b = a
    · subst e; rw [oU_s] at hb; cases hb
    · rw [oU_n e] at hb
      by_cases e2 : b = ar a
      · subst e2; rw [oU_s] at hb; cases hb
      · rw [oU_n e2] at hb; exact ⟨e, e2, hb⟩
  refine ⟨co, ml, cap, f, ar a, r3, hne, hE, hG, ar, fun b y hy => ?_, fun b ys hy => h2 b ys (hb b _ hy).2.2, fun b ys hy => h3 b ys (hb b _ hy).2.2, fun b y hy => ?_, fun b c y z hy hz e n => h5 b c y z (hb b _ hy).2.2 (hb c _ hz).2.2 e n, ?_, h7, h8⟩
  · by_cases e : b = a
    · subst e; rw [oU_s] at hy; cases hy; exact r1
    · rw [oU_n e] at hy
      by_cases e2 : b = ar a
      · subst e2; rw [oU_s] at hy; cases hy; exact r2
      · rw [oU_n e2] at hy; exact h1 b y hy
  · obtain ⟨n1, n2, n3⟩ := hb b _ hy
    rcases h4 b y n3 with q | q
    · exact Or.inl q
    · by_cases e : ar b = kE K
      · exact Or.inl e
      · refine Or.inr ?_
        have e1 : ar b ≠ a := fun w => by rw [w, ha] at q; cases q
        have e2 : ar b ≠ ar a := fun w => n1 (h5 b a _ _ n3 ha w e)
        rw [oU_n e1, oU_n e2]; exact q
  · rw [oU_n hae.symm, oU_n hE.symm]; exact h6
/-- and shut -/
theorem gLf.closeT {K : gK} {G : gG} {Rw : Nat → Option va_E} (h : gLf K G Rw) {a arr n cap : Nat} {co ml : Int32} {f : Nat → Int32} {cs : List Nat} (ha : G a = some (.inl (sbF arr co ml n))) (hr : G arr = some (.inl (sbA K cap f))) (hE : arr ≠ kE K) (hn : n = cs.length) (hok : sbOk cs co cap f) : gLf K (oU (oD G arr) a (.inr (.inr cs))) Rw := by
  subst hn
  obtain ⟨ar, h1, h2, h3, h4, h5, h6, h7, h8⟩ := h
  have hae : a ≠ kE K := fun e => by rw [e, h6] at ha; unfold alA sbF at ha; cases ha
  have hra : arr ≠ a := fun e => by rw [e, ha] at hr; unfold sbF sbA at hr; cases hr
  have hb : ∀ (b : Nat) (y : gE), b ≠ a → oU (oD G arr) a (.inr (.inr cs)) b = some y → b ≠ arr ∧ G b = some y := by
    intro b y e hb
    rw [oU_n e] at hb
    by_cases e2 : b = arr
    · subst e2; rw [oD_s] at hb; cases hb
    · rw [oD_n e2] at hb; exact ⟨e2, hb⟩
  have hno : ∀ (b : Nat) (y : List Nat ⊕ List Nat), G b = some (.inr y) → ar b ≠ arr ∧ ar b ≠ a := by
    intro b y hy
    rcases h4 b y hy with q | q
    · exact ⟨fun w => hE (w.symm.trans q), fun w => hae (w.symm.trans q)⟩
    · exact ⟨fun w => (by rw [w, hr] at q; cases q), fun w => (by rw [w, ha] at q; cases q)⟩
  refine ⟨fun b => if b = a then arr else ar b, fun b y hy => ?_, fun b ys hy => ?_, fun b ys hy => ?_, fun b y hy => ?_, fun b c y z hy hz e n => ?_, by rw [oU_n hae.symm, oD_n hE.symm]; exact h6, h7, h8⟩
  · by_cases e : b = a
    · subst e; rw [oU_s] at hy; cases hy
    · exact h1 b y (hb b _ e hy).2
  · by_cases e : b = a
    · subst e; rw [oU_s] at hy; cases hy
    · simp only [if_neg e]
      exact h2 b ys (hb b _ e hy).2
  · by_cases e : b = a
    · subst e
      rw [oU_s] at hy
      cases hy
      refine ⟨co, ml, cap, f, ?_, ?_, hok⟩
      · simp only [if_true]; exact h1 _ _ ha
      · simp only [if_true]; exact h1 _ _ hr
    · simp only [if_neg e]
      exact h3 b ys (hb b _ e hy).2
  · by_cases e : b = a
    · subst e
      simp only [if_true]
      exact Or.inr (by rw [oU_n hra]; exact oD_s)
    · simp only [if_neg e]
      obtain ⟨n1, n2⟩ := hb b _ e hy
      rcases h4 b y n2 with q | q
      · exact Or.inl q
      · refine Or.inr ?_
        rw [oU_n (hno b y n2).2, oD_n (hno b y n2).1]; exact q
  · by_cases e1 : b = a <;> by_cases e2 : c = a
    · exact e1.trans e2.symm
    · simp only [if_pos e1, if_neg e2] at e
      exact absurd e.symm (hno c z (hb c _ e2 hz).2).1
    · simp only [if_neg e1, if_pos e2] at e
      exact absurd e (hno b y (hb b _ e1 hy).2).1
    · simp only [if_neg e1, if_neg e2] at e n
      exact h5 b c y z (hb b _ e1 hy).2 (hb c _ e2 hz).2 e n
/-- a text taken apart: the object a over the bytes arr -/
def gOT (K : gK) (G : gG) (a : Nat) (co ml : Int32) (arr n cap : Nat) (f : Nat → Int32) : gG := oU (oU G arr (.inl (sbA K cap f))) a (.inl (sbF arr co ml n))
def gTa (K : gK) (G : gG) (a arr : Nat) : Prop := arr ≠ a ∧ arr ≠ kE K ∧ G arr = none
section GText
variable {K : gK} {G : gG} {a : Nat} {H : Heap}
theorem gR.opnT (hR : gR K G H) {cs : List Nat} (ha : G a = some (.inr (.inr cs))) : ∃ (co ml : Int32) (cap : Nat) (f : Nat → Int32) (arr : Nat), sbOk cs co cap f ∧ gTa K G a arr ∧ gR K (gOT K G a co ml arr cs.length cap f) H := by
  obtain ⟨Rw, h1, h2⟩ := hR
  obtain ⟨co, ml, cap, f, arr, q1, q2, q3, q4, q5⟩ := h2.openT ha
  exact ⟨co, ml, cap, f, arr, q1, ⟨q2, q3, q4⟩, Rw, h1, q5⟩
theorem gOT_a {co ml : Int32} {arr n cap : Nat} {f : Nat → Int32} : gOT K G a co ml arr n cap f a = some (.inl (.inr (9, [.ref arr, .int co, .int ml, .int (nI n)]))) := oU_s
theorem gOT_arr {co ml : Int32} {arr n cap : Nat} {f : Nat → Int32} (h : arr ≠ a) : gOT K G a co ml arr n cap f arr = some (.inl (.inl (kC K 3, (cap, .inl f)))) := (oU_n h).trans oU_s
theorem gOT_n {co ml : Int32} {arr n cap b : Nat} {f : Nat → Int32} (h : b ≠ arr) (h2 : b ≠ a) : gOT K G a co ml arr n cap f b = G b := (oU_n h2).trans (oU_n h)
theorem gR.shutT {co ml : Int32} {arr n cap : Nat} {f : Nat → Int32} {cs : List Nat} (hR : gR K (gOT K G a co ml arr n cap f) H) (hn : n = cs.length) (hok : sbOk cs co cap f) (har : gTa K G a arr) : gR K (oU G a (.inr (.inr cs))) H := by
  obtain ⟨Rw, h1, h2⟩ := hR
  obtain ⟨hne, he, hG⟩ := har
  have h3 := h2.closeT gOT_a (gOT_arr hne) he hn hok
  refine ⟨Rw, h1, ?_⟩
  have e : oU (oD (gOT K G a co ml arr n cap f) arr) a (.inr (.inr cs)) = oU G a (.inr (.inr cs)) := by
    funext b
    by_cases e1 : b = a
    · rw [e1, oU_s, oU_s]
    · rw [oU_n e1, oU_n e1]
      by_cases e2 : b = arr
      · rw [e2, oD_s, hG]
      · rw [oD_n e2, gOT_n e2 e1]
  rw [e] at h3
  exact h3
/-- shapes -/
theorem gOT_m {co ml co' ml' : Int32} {arr n n' cap : Nat} {f : Nat → Int32} : oU (gOT K G a co ml arr n cap f) a (.inl (.inr (9, [.ref arr, .int co', .int ml', .int (nI n')]))) = gOT K G a co' ml' arr n' cap f := oU_uu
theorem gOT_w {co ml : Int32} {arr n cap cap' : Nat} {f f' : Nat → Int32} (h : arr ≠ a) : oU (gOT K G a co ml arr n cap f) arr (.inl (.inl (kC K 3, (cap', .inl f')))) = gOT K G a co ml arr n cap' f' := by
  unfold gOT
  rw [oU_comm h.symm, oU_uu]
  rfl
/-- over new bytes: the old ones are forgotten -/
theorem gOT_new {co ml co' : Int32} {arr n cap q cap' : Nat} {f f' : Nat → Int32} (har : gTa K G a arr) (hq : gOT K G a co ml arr n cap f q = none) (hE : q ≠ kE K)
    (hR : gR K (oU (oU (gOT K G a co ml arr n cap f) q (.inl (.inl (kC K 3, (cap', .inl f'))))) a (.inl (.inr (9, [.ref q, .int co', .int ml, .int (nI n)])))) H) : gR K (gOT K G a co' ml q n cap' f') H ∧ gTa K G a q ∧ G q = none := by
  have hqa : q ≠ a := fun z => by rw [z, gOT_a] at hq; cases hq
  have hqr : q ≠ arr := fun z => by rw [z, gOT_arr har.1] at hq; cases hq
  have hGq : G q = none := (gOT_n (K := K) (co := co) (ml := ml) (n := n) (cap := cap) (f := f) hqr hqa).symm.trans hq
  refine ⟨?_, ⟨hqa, hE, hGq⟩, hGq⟩
  have ha9 : oU (oU (gOT K G a co ml arr n cap f) q (.inl (.inl (kC K 3, (cap', .inl f'))))) a (.inl (.inr (9, [.ref q, .int co', .int ml, .int (nI n)]))) arr = some (.inl (.inl (kC K 3, (cap, .inl f)))) := (oU_n har.1).trans ((oU_n hqr.symm).trans (gOT_arr har.1))
  have h2 := hR.drop ha9 har.2.1
  have h : oD (oU (oU (gOT K G a co ml arr n cap f) q (.inl (.inl (kC K 3, (cap', .inl f'))))) a (.inl (.inr (9, [.ref q, .int co', .int ml, .int (nI n)])))) arr = gOT K G a co' ml q n cap' f' := by
    funext b
    by_cases e3 : b = arr
    · rw [e3, oD_s, gOT_n hqr.symm har.1, har.2.2]
    · rw [oD_n e3]
      unfold gOT sbF sbA
      by_cases e1 : b = a
      · rw [e1, oU_s, oU_s]
      · rw [oU_n e1, oU_n e1]
        by_cases e2 : b = q
        · rw [e2, oU_s, oU_s]
        · rw [oU_n e2, oU_n e2]
          exact gOT_n e3 e1
  rw [h] at h2
  exact h2
/-- numbers halved, doubled -/
theorem tx_shr (x : Nat) (h : x < 1001) : nI x >>> ((1 : Int32) &&& 31) = nI (x / 2) := shr_1 x h
theorem tx_shl (x : Nat) (h : x < 2 ^ 30) : nI x <<< ((1 : Int32) &&& 31) = nI (2 * x) := (pk_shlN _ 1 (by decide) (by omega)).trans (congrArg nI (by omega))
/-- a text that is made -/
theorem gT_new {arr cap : Nat} {ml : Int32} (hR : gR K (oU (oU G arr (.inl (.inl (kC K 3, (cap, .inl (fun _ => 0)))))) a (.inl (.inr (9, [.ref arr, .int 0, .int ml, .int 0])))) H) (har : gTa K G a arr) (hc : cap ≤ 400) : gR K (oU G a (.inr (.inr []))) H := by
  have h : oU (oU G arr (.inl (.inl (kC K 3, (cap, .inl (fun _ => 0)))))) a (.inl (.inr (9, [.ref arr, .int 0, .int ml, .int 0]))) = gOT K G a 0 ml arr 0 cap (fun _ => 0) := rfl
  rw [h] at hR
  exact hR.shutT rfl ⟨sb_fit0, by omega, Or.inl ⟨rfl, Nat.zero_le _, hc, fun i h => absurd h (Nat.not_lt_zero _)⟩⟩ har
end GText
