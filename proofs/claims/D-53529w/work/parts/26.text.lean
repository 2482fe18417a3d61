/-! TEXTS: what is read from a row of chars; faults by their place -/
def pC (cs : List Nat) (a : Nat) : Int32 := match cs[a]? with
  | some c => nI c
  | none => -1
def pDi (cs : List Nat) (a : Nat) : Bool := fIn (pC cs a) 48 57
theorem pC_lt {cs : List Nat} {a : Nat} (h : pC cs a ≠ -1) : a < cs.length := by
  rcases Nat.lt_or_ge a cs.length with q | q
  · exact q
  · exfalso
    apply h
    unfold pC
    rw [List.getElem?_eq_none q]
theorem pDi_lt {cs : List Nat} {a : Nat} (h : pDi cs a = true) : a < cs.length := pC_lt (fun z => by unfold pDi at h; rw [z] at h; exact absurd h (by decide))
abbrev pT (α : Type) : Type := Nat ⊕ (α × Nat)
def pB {α β : Type} (x : pT α) (f : α → Nat → pT β) : pT β := match x with
  | .inl p => .inl p
  | .inr (v, a) => f v a
def pDg (cs : List Nat) : Nat → Int32 → Nat → Int32 × Nat
  | 0, v, a => (v, a)
  | n + 1, v, a => if 0 < v ∧ pDi cs a = true then pDg cs n (10 * v + (pC cs a - 48)) (a + 1) else (v, a)
def pDs (cs : List Nat) (m : Nat) (a : Nat) : pT Int32 := if pDi cs a = true then .inr (pDg cs (m - 1) (pC cs a - 48) (a + 1)) else .inl a
def pWn (cs : List Nat) (c : Int32) (a : Nat) : pT Unit := if pC cs a = c then .inr ((), a + 1) else .inl a
def pWd (cs : List Nat) (a : Nat) : pT Int32 := pB (pWn cs 119 a) (fun _ a => pDs cs 2 a)
def pNg (cs : List Nat) (a : Nat) : Bool := decide (pC cs a = 45)
def pNu (cs : List Nat) (less : Bool) (a : Nat) : pT Int32 := pB (pDs cs 3 a) (fun v a => pB (pWn cs 46 a) (fun _ a => if pDi cs a = true then .inr (if less = true then -(10 * v + (pC cs a - 48)) else 10 * v + (pC cs a - 48), a + 1) else .inl a))
def pNm (cs : List Nat) (a : Nat) : pT Int32 := pNu cs (pNg cs a) (if pNg cs a = true then a + 1 else a)
abbrev pQ : Type := Int32 × Int32 × Int32 × Int32
def pOr (cs : List Nat) (a : Nat) : pT pQ := pB (pWd cs a) (fun w a => pB (pWn cs 61 a) (fun _ a =>
  if pC cs a = 119 then pB (pWd cs a) (fun u a => pB (pWn cs 42 a) (fun _ a => pB (pNm cs a) (fun f a => if pC cs a = 43 then pB (pNm cs (a + 1)) (fun x a => .inr ((w, u, f, x), a)) else .inr ((w, u, f, 0), a))))
  else pB (pNm cs a) (fun x a => .inr ((w, -5, 10, x), a))))
def pOs (cs : List Nat) : Nat → Nat → pT (List pQ)
  | 0, a => .inl a
  | n + 1, a => pB (pOr cs a) (fun t a => if a < cs.length then pB (pWn cs 59 a) (fun _ a => pB (pOs cs n a) (fun ts a => .inr (t :: ts, a))) else .inr ([t], a))
/-! the machine that reads: a place, or a fault's place -/
def pPl : Nat ⊕ Nat → Nat
  | .inl p => p
  | .inr a => a
def pWr : Nat ⊕ Nat → Bool
  | .inl _ => true
  | .inr _ => false
def pMu (b : Bool) : Nat ⊕ Nat → Nat ⊕ Nat
  | .inl p => .inl p
  | .inr a => if b = true then .inr (a + 1) else .inl a
def pGo {α : Type} (f : Nat → pT α) : Nat ⊕ Nat → pT α
  | .inl p => .inl p
  | .inr a => f a
def pPo {α : Type} : pT α → Nat ⊕ Nat
  | .inl p => .inl p
  | .inr x => .inr x.2
def pVa {α : Type} : pT α → Option α
  | .inl _ => none
  | .inr x => some x.1
def pSt (V : tV) (cs : List Nat) (ps : Nat ⊕ Nat) : Prop := V.1 11 = nI (pPl ps) ∧ V.1 12 = bI (pWr ps) ∧ pPl ps ≤ cs.length
def pTx (V : tV) (cs : List Nat) : Prop := V.1 8 = nI cs.length ∧ cs.length ≤ 60 ∧ ∀ (i : Nat) (h : i < cs.length), V.2.1 7 i = nI cs[i]
theorem pTx.to {X : List Nat} {V V1 : tV} {cs : List Nat} (h : pTx V cs) (hq : tQ X V V1) (h8 : 8 ∉ X) (h7 : 7 ∉ X) : pTx V1 cs :=
  ⟨(hq.fld h8).trans h.1, h.2.1, fun i hi => (congrFun (hq.arr h7) i).trans (h.2.2 i hi)⟩
theorem pWr_t {ps : Nat ⊕ Nat} (h : pWr ps = true) : ∃ p, ps = .inl p := by
  cases ps with
  | inl p => exact ⟨p, rfl⟩
  | inr a => cases h
theorem pWr_f {ps : Nat ⊕ Nat} (h : pWr ps = false) : ∃ a, ps = .inr a := by
  cases ps with
  | inl p => cases h
  | inr a => exact ⟨a, rfl⟩
/-- digits so far -/
def pFin (cs : List Nat) (n : Nat) (v : Int32) : Nat ⊕ Nat → pT Int32
  | .inl p => .inl p
  | .inr a => .inr (pDg cs n v a)
def pLast {α : Type} (v : α) : Nat ⊕ Nat → pT α
  | .inl p => .inl p
  | .inr a => .inr (v, a)
theorem pPo_last {α : Type} {v : α} {ps : Nat ⊕ Nat} : pPo (pLast v ps) = ps := by cases ps <;> rfl
theorem pVa_last {α : Type} {v v' : α} {ps : Nat ⊕ Nat} (h : pVa (pLast v ps) = some v') : v = v' := by
  cases ps with
  | inl p => cases h
  | inr a => cases h; rfl
theorem pDs_0 {cs : List Nat} {m : Nat} {ps : Nat ⊕ Nat} : pGo (pDs cs m) ps = pFin cs (m - 1) (pC cs (pPl ps) - 48) (pMu (pDi cs (pPl ps)) ps) := by
  cases ps with
  | inl p => rfl
  | inr a =>
    show (if pDi cs a = true then _ else _) = pFin cs (m - 1) (pC cs a - 48) (if pDi cs a = true then .inr (a + 1) else .inl a)
    by_cases h : pDi cs a = true
    · rw [if_pos h, if_pos h]; rfl
    · rw [if_neg h, if_neg h]; rfl
theorem pFin_w {cs : List Nat} {n : Nat} {v : Int32} {ps : Nat ⊕ Nat} (h : pWr ps = true) : pFin cs n v ps = pLast v ps := by
  obtain ⟨p, rfl⟩ := pWr_t h
  rfl
theorem pFin_0 {cs : List Nat} {v : Int32} {ps : Nat ⊕ Nat} : pFin cs 0 v ps = pLast v ps := by cases ps <;> rfl
theorem pFin_s {cs : List Nat} {n : Nat} {v : Int32} {ps : Nat ⊕ Nat} (h : ¬ (0 < v ∧ pDi cs (pPl ps) = true)) : pFin cs n v ps = pLast v ps := by
  cases ps with
  | inl p => rfl
  | inr a =>
    cases n with
    | zero => rfl
    | succ n =>
      have h : ¬ (0 < v ∧ pDi cs a = true) := h
      show Sum.inr (pDg cs (n + 1) v a) = _
      unfold pDg
      rw [if_neg h]
      rfl
theorem pFin_n {cs : List Nat} {n a : Nat} {v : Int32} (h : 0 < v ∧ pDi cs a = true) : pFin cs (n + 1) v (.inr a) = pFin cs n (10 * v + (pC cs a - 48)) (.inr (a + 1)) := by
  show Sum.inr (pDg cs (n + 1) v a) = _
  conv => lhs; unfold pDg
  rw [if_pos h]
  rfl
/-- a word here -/
theorem pWd_go {cs : List Nat} {ps : Nat ⊕ Nat} : pGo (pWd cs) ps = pGo (pDs cs 2) (pMu (decide (pC cs (pPl ps) = 119)) ps) := by
  cases ps with
  | inl p => rfl
  | inr a =>
    show pB (pWn cs 119 a) _ = pGo _ (if decide (pC cs a = 119) = true then .inr (a + 1) else .inl a)
    unfold pWn
    by_cases h : pC cs a = 119
    · rw [if_pos h, if_pos (decide_eq_true h)]; rfl
    · rw [if_neg h, if_neg (by rw [decide_eq_false h]; decide)]; rfl
/-- a number -/
def pN0 (cs : List Nat) : Nat ⊕ Nat → Nat ⊕ Nat
  | .inl p => .inl p
  | .inr a => .inr (if pNg cs a = true then a + 1 else a)
theorem pNm_go {cs : List Nat} {ps : Nat ⊕ Nat} : pGo (pNm cs) ps = pGo (pNu cs (pNg cs (pPl ps))) (pN0 cs ps) := by cases ps <;> rfl
theorem pNu_go {cs : List Nat} {less : Bool} {ps ps1 ps2 : Nat ⊕ Nat} (h1 : ps1 = pPo (pGo (pDs cs 3) ps)) (h2 : ps2 = pMu (decide (pC cs (pPl ps1) = 46)) ps1) :
    pPo (pGo (pNu cs less) ps) = pMu (pDi cs (pPl ps2)) ps2 ∧ ∀ v, pVa (pGo (pNu cs less) ps) = some v → ∃ u, pVa (pGo (pDs cs 3) ps) = some u ∧ v = if less = true then -(10 * u + (pC cs (pPl ps2) - 48)) else 10 * u + (pC cs (pPl ps2) - 48) := by
  subst h1
  subst h2
  cases ps with
  | inl p => exact ⟨rfl, fun v h => by cases h⟩
  | inr a =>
    show pPo (pNu cs less a) = _ ∧ ∀ v, pVa (pNu cs less a) = some v → _
    unfold pNu
    cases hd : pDs cs 3 a with
    | inl p => simp only [pGo, hd]; exact ⟨rfl, fun v h => by cases h⟩
    | inr x =>
      obtain ⟨u, a1⟩ := x
      simp only [pGo, hd, pB, pPo, pPl]
      unfold pWn
      by_cases h46 : pC cs a1 = 46
      · rw [if_pos h46, decide_eq_true h46]
        simp only [pMu, if_true, pPl]
        by_cases hdi : pDi cs (a1 + 1) = true
        · rw [if_pos hdi, if_pos hdi]
          exact ⟨rfl, fun v h => by cases h; exact ⟨u, rfl, rfl⟩⟩
        · rw [if_neg hdi, if_neg hdi]
          exact ⟨rfl, fun v h => by cases h⟩
      · rw [if_neg h46, decide_eq_false h46]
        exact ⟨rfl, fun v h => by cases h⟩
/-- an order: three ways -/
theorem pOr_go {cs : List Nat} {ps0 ps1 ps2 : Nat ⊕ Nat} (h1 : ps1 = pPo (pGo (pWd cs) ps0)) (h2 : ps2 = pMu (decide (pC cs (pPl ps1) = 61)) ps1) :
    ((pWr ps2 = true ∨ pC cs (pPl ps2) ≠ 119) → pPo (pGo (pOr cs) ps0) = pPo (pGo (pNm cs) ps2) ∧ ∀ t, pVa (pGo (pOr cs) ps0) = some t → ∃ w x, pVa (pGo (pWd cs) ps0) = some w ∧ pVa (pGo (pNm cs) ps2) = some x ∧ t = (w, -5, 10, x)) ∧
    ∀ ps3 ps4 ps5 : Nat ⊕ Nat, pWr ps2 = false → pC cs (pPl ps2) = 119 → ps3 = pPo (pGo (pWd cs) ps2) → ps4 = pMu (decide (pC cs (pPl ps3) = 42)) ps3 → ps5 = pPo (pGo (pNm cs) ps4) →
      ((pWr ps5 = true ∨ pC cs (pPl ps5) ≠ 43) → pPo (pGo (pOr cs) ps0) = ps5 ∧ ∀ t, pVa (pGo (pOr cs) ps0) = some t → ∃ w u f, pVa (pGo (pWd cs) ps0) = some w ∧ pVa (pGo (pWd cs) ps2) = some u ∧ pVa (pGo (pNm cs) ps4) = some f ∧ t = (w, u, f, 0)) ∧
      ∀ a, ps5 = .inr a → pC cs a = 43 → pPo (pGo (pOr cs) ps0) = pPo (pGo (pNm cs) (.inr (a + 1))) ∧ ∀ t, pVa (pGo (pOr cs) ps0) = some t → ∃ w u f x, pVa (pGo (pWd cs) ps0) = some w ∧ pVa (pGo (pWd cs) ps2) = some u ∧ pVa (pGo (pNm cs) ps4) = some f ∧ pVa (pGo (pNm cs) (.inr (a + 1))) = some x ∧ t = (w, u, f, x) := by
  subst h1
  cases ps0 with
  | inl p =>
    subst h2
    exact ⟨fun _ => ⟨rfl, fun v h => by cases h⟩, fun ps3 ps4 ps5 h => by cases h⟩
  | inr a0 =>
    have go : pGo (pOr cs) (.inr a0) = pOr cs a0 := rfl
    have gw : pGo (pWd cs) (.inr a0) = pWd cs a0 := rfl
    rw [gw] at h2
    rw [go, gw]
    unfold pOr
    cases hw : pWd cs a0 with
    | inl p =>
      rw [hw] at h2
      subst h2
      exact ⟨fun _ => ⟨rfl, fun v h => by cases h⟩, fun ps3 ps4 ps5 h => by cases h⟩
    | inr x =>
      obtain ⟨w, a1⟩ := x
      rw [hw] at h2
      have h2 : ps2 = pMu (decide (pC cs a1 = 61)) (.inr a1) := h2
      simp only [pB]
      unfold pWn
      by_cases h61 : pC cs a1 = 61
      · rw [decide_eq_true h61] at h2
        have h2 : ps2 = .inr (a1 + 1) := h2
        subst h2
        rw [if_pos h61]
        dsimp only
        refine ⟨fun hn => ?_, fun ps3 ps4 ps5 _ h119 h3 h4 h5 => ?_⟩
        · have hn : pC cs (a1 + 1) ≠ 119 := by
            rcases hn with hn | hn
            · cases hn
            · exact hn
          rw [if_neg hn]
          have gn : pGo (pNm cs) (.inr (a1 + 1)) = pNm cs (a1 + 1) := rfl
          rw [gn]
          cases hx : pNm cs (a1 + 1) with
          | inl p => exact ⟨rfl, fun v h => by cases h⟩
          | inr y =>
            obtain ⟨x, a2⟩ := y
            exact ⟨rfl, fun v h => by cases h; exact ⟨w, x, rfl, rfl, rfl⟩⟩
        · have h119 : pC cs (a1 + 1) = 119 := h119
          rw [if_pos h119]
          have gw : pGo (pWd cs) (.inr (a1 + 1)) = pWd cs (a1 + 1) := rfl
          rw [gw] at h3 ⊢
          cases hu : pWd cs (a1 + 1) with
          | inl p =>
            rw [hu] at h3
            have h3 : ps3 = .inl p := h3
            subst h3
            have h4 : ps4 = .inl p := h4
            subst h4
            have h5 : ps5 = .inl p := h5
            subst h5
            exact ⟨fun _ => ⟨rfl, fun v h => by cases h⟩, fun a h => by cases h⟩
          | inr y =>
            obtain ⟨u, a2⟩ := y
            rw [hu] at h3
            have h3 : ps3 = .inr a2 := h3
            subst h3
            have h4 : ps4 = pMu (decide (pC cs a2 = 42)) (.inr a2) := h4
            dsimp only
            by_cases h42 : pC cs a2 = 42
            · rw [decide_eq_true h42] at h4
              have h4 : ps4 = .inr (a2 + 1) := h4
              subst h4
              rw [if_pos h42]
              dsimp only
              have gn : pGo (pNm cs) (.inr (a2 + 1)) = pNm cs (a2 + 1) := rfl
              rw [gn] at h5 ⊢
              cases hf : pNm cs (a2 + 1) with
              | inl p =>
                rw [hf] at h5
                have h5 : ps5 = .inl p := h5
                subst h5
                exact ⟨fun _ => ⟨rfl, fun v h => by cases h⟩, fun a h => by cases h⟩
              | inr z =>
                obtain ⟨f, a3⟩ := z
                rw [hf] at h5
                have h5 : ps5 = .inr a3 := h5
                subst h5
                dsimp only
                refine ⟨fun hn => ?_, fun a ha h43 => ?_⟩
                · have hn : pC cs a3 ≠ 43 := by
                    rcases hn with hn | hn
                    · cases hn
                    · exact hn
                  rw [if_neg hn]
                  exact ⟨rfl, fun v h => by cases h; exact ⟨w, u, f, rfl, rfl, rfl, rfl⟩⟩
                · cases ha
                  rw [if_pos h43]
                  have gn : pGo (pNm cs) (.inr (a3 + 1)) = pNm cs (a3 + 1) := rfl
                  rw [gn]
                  cases hx : pNm cs (a3 + 1) with
                  | inl p => exact ⟨rfl, fun v h => by cases h⟩
                  | inr y =>
                    obtain ⟨x, a4⟩ := y
                    exact ⟨rfl, fun v h => by cases h; exact ⟨w, u, f, x, rfl, rfl, rfl, rfl, rfl⟩⟩
            · rw [decide_eq_false h42] at h4
              have h4 : ps4 = .inl a2 := h4
              subst h4
              have h5 : ps5 = .inl a2 := h5
              subst h5
              rw [if_neg h42]
              exact ⟨fun _ => ⟨rfl, fun v h => by cases h⟩, fun a h => by cases h⟩
      · rw [decide_eq_false h61] at h2
        have h2 : ps2 = .inl a1 := h2
        subst h2
        rw [if_neg h61]
        exact ⟨fun _ => ⟨rfl, fun v h => by cases h⟩, fun ps3 ps4 ps5 h => by cases h⟩
/-- how far it is read -/
theorem pDg_a {cs : List Nat} : ∀ (n : Nat) (v : Int32) (a : Nat), a ≤ (pDg cs n v a).2 ∧ (a ≤ cs.length → (pDg cs n v a).2 ≤ cs.length)
  | 0, v, a => ⟨Nat.le_refl _, fun h => h⟩
  | n + 1, v, a => by
    unfold pDg
    by_cases h : 0 < v ∧ pDi cs a = true
    · rw [if_pos h]
      obtain ⟨h1, h2⟩ := pDg_a n (10 * v + (pC cs a - 48)) (a + 1)
      exact ⟨by omega, fun _ => h2 (pDi_lt h.2)⟩
    · rw [if_neg h]
      exact ⟨Nat.le_refl _, fun h => h⟩
theorem pDs_a {cs : List Nat} {m a a' : Nat} {v : Int32} (h : pDs cs m a = .inr (v, a')) : a + 1 ≤ a' ∧ a' ≤ cs.length := by
  unfold pDs at h
  by_cases hd : pDi cs a = true
  · rw [if_pos hd] at h
    have h := Sum.inr.inj h
    have h1 := pDg_a (cs := cs) (m - 1) (pC cs a - 48) (a + 1)
    rw [h] at h1
    exact ⟨h1.1, h1.2 (pDi_lt hd)⟩
  · rw [if_neg hd] at h; cases h
theorem pWn_a {cs : List Nat} {c : Int32} {a a' : Nat} {v : Unit} (hc : c ≠ -1) (h : pWn cs c a = .inr (v, a')) : a' = a + 1 ∧ a' ≤ cs.length := by
  unfold pWn at h
  by_cases hd : pC cs a = c
  · rw [if_pos hd] at h
    have h := Sum.inr.inj h
    cases h
    exact ⟨rfl, pC_lt (by rw [hd]; exact hc)⟩
  · rw [if_neg hd] at h; cases h
theorem pB_s {α β : Type} {x : pT α} {f : α → Nat → pT β} {y : β × Nat} (h : pB x f = .inr y) : ∃ v a, x = .inr (v, a) ∧ f v a = .inr y := by
  cases x with
  | inl p => cases h
  | inr z => exact ⟨z.1, z.2, rfl, h⟩
theorem pWd_a {cs : List Nat} {a a' : Nat} {v : Int32} (h : pWd cs a = .inr (v, a')) : a + 2 ≤ a' ∧ a' ≤ cs.length := by
  obtain ⟨u, b, h1, h2⟩ := pB_s h
  have h1 := pWn_a (by decide) h1
  have h2 := pDs_a h2
  omega
theorem pNm_a {cs : List Nat} {a a' : Nat} {v : Int32} (h : pNm cs a = .inr (v, a')) : a + 3 ≤ a' ∧ a' ≤ cs.length := by
  unfold pNm pNu at h
  obtain ⟨u, b, h1, h2⟩ := pB_s h
  obtain ⟨u2, b2, h3, h4⟩ := pB_s h2
  have h1 := pDs_a h1
  have h3 := pWn_a (by decide) h3
  by_cases hd : pDi cs b2 = true
  · rw [if_pos hd] at h4
    have h4 := Sum.inr.inj h4
    have h5 := pDi_lt hd
    cases h4
    split at h1 <;> omega
  · rw [if_neg hd] at h4; cases h4
theorem pOr_a {cs : List Nat} {a a' : Nat} {v : pQ} (h : pOr cs a = .inr (v, a')) : a + 6 ≤ a' ∧ a' ≤ cs.length := by
  obtain ⟨w, b, h1, h2⟩ := pB_s h
  obtain ⟨_, b2, h3, h4⟩ := pB_s h2
  have h1 := pWd_a h1
  have h3 := pWn_a (by decide) h3
  split at h4
  · obtain ⟨u, b3, h5, h6⟩ := pB_s h4
    obtain ⟨_, b4, h7, h8⟩ := pB_s h6
    obtain ⟨f, b5, h9, h10⟩ := pB_s h8
    have h5 := pWd_a h5
    have h7 := pWn_a (by decide) h7
    have h9 := pNm_a h9
    split at h10
    · obtain ⟨x, b6, h11, h12⟩ := pB_s h10
      have h11 := pNm_a h11
      cases Sum.inr.inj h12
      omega
    · cases Sum.inr.inj h10
      omega
  · obtain ⟨x, b3, h5, h6⟩ := pB_s h4
    have h5 := pNm_a h5
    cases Sum.inr.inj h6
    omega
/-- orders told, nailed one after another -/
def pBo (x : Int32) : Int32 := (FP.fdiv (FP.i2f x) 1092616192).toInt32
def fNs (p str : Int32) : List pQ → (Nat → Int32) → Nat → Int32 ⊕ (Nat → Int32)
  | [], F, _ => .inr F
  | t :: ts, F, N => if fNr F N p t.1 t.2.1 (pBo t.2.2.1) (pBo t.2.2.2) str < 0 then .inl (fNr F N p t.1 t.2.1 (pBo t.2.2.1) (pBo t.2.2.2) str) else fNs p str ts (fNl F N p t.1 t.2.1 (pBo t.2.2.1) (pBo t.2.2.2) str) (N + 1)
def zRd (F : Nat → Int32) (N : Nat) (cs : List Nat) (p str : Int32) : zR := if fIn p 0 (F 0 - 1) = false then (-1, none) else if fFrom str 1036831949 1092616192 = false then (-2, none) else match pOs cs 10 0 with
  | .inl q => (-100 - nI q, none)
  | .inr x => match fNs p str x.1 F N with
    | .inl r => (r, none)
    | .inr F' => (nI x.1.length, some F')
def pPre (ts : List pQ) (x : pT (List pQ)) : pT (List pQ) := pB x (fun l a => .inr (ts ++ l, a))
theorem pPre_nil {x : pT (List pQ)} : pPre [] x = x := by cases x <;> rfl
theorem pC_n {cs : List Nat} {a : Nat} (h : cs.length ≤ a) : pC cs a = -1 := by
  unfold pC
  rw [List.getElem?_eq_none h]
theorem pC_s {cs : List Nat} {a : Nat} (h : a < cs.length) : pC cs a = nI cs[a] := by
  unfold pC
  rw [List.getElem?_eq_getElem h]
theorem as48 (a b : Int32) : a + b - 48 = a + (b - 48) := by rw [Int32.sub_eq_add_neg, Int32.sub_eq_add_neg, Int32.add_assoc]
theorem ix_4 (k j : Nat) : (4 : Int32) * nI k + nI j = nI (4 * k + j) := by
  show nI 4 * nI k + nI j = _
  rw [pk_mul, nI_add]
theorem ix_40 (k : Nat) : (4 : Int32) * nI k = nI (4 * k) := by
  show nI 4 * nI k = _
  rw [pk_mul]
theorem pN0_pl {cs : List Nat} {ps : Nat ⊕ Nat} (h : pPl ps ≤ cs.length) : pPl (pN0 cs ps) ≤ cs.length := by
  cases ps with
  | inl p => exact h
  | inr a =>
    show (if pNg cs a = true then a + 1 else a) ≤ cs.length
    split
    · rename_i hn
      exact pC_lt (by rw [of_decide_eq_true hn]; decide)
    · exact h
theorem pN0_wr {cs : List Nat} {ps : Nat ⊕ Nat} : pWr (pN0 cs ps) = pWr ps := by cases ps <;> rfl
theorem os_w {cs : List Nat} {n a p : Nat} (h : pOr cs a = .inl p) : pOs cs (n + 1) a = .inl p := by
  unfold pOs
  rw [h]
  rfl
theorem os_e {cs : List Nat} {n a a1 : Nat} {t : pQ} (h : pOr cs a = .inr (t, a1)) (h1 : cs.length ≤ a1) : pOs cs (n + 1) a = .inr ([t], a1) := by
  unfold pOs
  rw [h]
  exact if_neg (by omega)
theorem os_f {cs : List Nat} {n a a1 : Nat} {t : pQ} (h : pOr cs a = .inr (t, a1)) (h1 : a1 < cs.length) (h2 : pC cs a1 ≠ 59) : pOs cs (n + 1) a = .inl a1 := by
  unfold pOs
  rw [h]
  refine (if_pos h1).trans ?_
  unfold pWn
  rw [if_neg h2]
  rfl
theorem os_n {cs : List Nat} {qs : List pQ} {n a a1 : Nat} {t : pQ} (h : pOr cs a = .inr (t, a1)) (h1 : a1 < cs.length) (h2 : pC cs a1 = 59) : pPre qs (pOs cs (n + 1) a) = pPre (qs ++ [t]) (pOs cs n (a1 + 1)) := by
  have e : pOs cs (n + 1) a = pB (pOs cs n (a1 + 1)) (fun ts a => .inr (t :: ts, a)) := by
    conv => lhs; unfold pOs
    rw [h]
    refine (if_pos h1).trans ?_
    unfold pWn
    rw [if_pos h2]
    rfl
  rw [e]
  unfold pPre
  cases pOs cs n (a1 + 1) with
  | inl p => rfl
  | inr x =>
    show Sum.inr (qs ++ t :: x.1, x.2) = Sum.inr (qs ++ [t] ++ x.1, x.2)
    rw [List.append_assoc]
    rfl
/-- what was told stands in the reference's row of what was told -/
def pTd (V : tV) (qs : List pQ) : Prop := ∀ (i : Nat) (t : pQ), qs[i]? = some t → V.2.1 13 (4 * i) = t.1 ∧ V.2.1 13 (4 * i + 1) = t.2.1 ∧ V.2.1 13 (4 * i + 2) = t.2.2.1 ∧ V.2.1 13 (4 * i + 3) = t.2.2.2
theorem pTd.nil {V : tV} : pTd V [] := fun i t h => by simp at h
theorem pTd.s {V V1 : tV} {qs : List pQ} {j : Nat} {t : pQ} (h : pTd V qs) (hj : qs.length = j) (hlo : ∀ i, i < 4 * j → V1.2.1 13 i = V.2.1 13 i) (ht : V1.2.1 13 (4 * j) = t.1 ∧ V1.2.1 13 (4 * j + 1) = t.2.1 ∧ V1.2.1 13 (4 * j + 2) = t.2.2.1 ∧ V1.2.1 13 (4 * j + 3) = t.2.2.2) : pTd V1 (qs ++ [t]) := by
  intro i u hu
  rcases Nat.lt_trichotomy i j with c | c | c
  · rw [List.getElem?_append_left (by omega)] at hu
    obtain ⟨h1, h2, h3, h4⟩ := h i u hu
    exact ⟨(hlo _ (by omega)).trans h1, (hlo _ (by omega)).trans h2, (hlo _ (by omega)).trans h3, (hlo _ (by omega)).trans h4⟩
  · subst c
    rw [List.getElem?_append_right (by omega), hj, Nat.sub_self] at hu
    cases hu
    exact ht
  · rw [List.getElem?_eq_none (by simp; omega)] at hu
    cases hu
theorem pTd.to {X : List Nat} {V V1 : tV} {qs : List pQ} (h : pTd V qs) (hq : tQ X V V1) (h13 : 13 ∉ X) : pTd V1 qs := by
  have e := hq.arr h13
  unfold pTd
  rw [e]
  exact h
theorem pGo_l {cs : List Nat} {a p : Nat} (h : pPo (pGo (pOr cs) (.inr a)) = .inl p) : pOr cs a = .inl p := by
  have h : pPo (pOr cs a) = .inl p := h
  cases hx : pOr cs a with
  | inl q => rw [hx] at h; cases h; rfl
  | inr x => rw [hx] at h; cases h
theorem pGo_r {cs : List Nat} {a a1 : Nat} (h : pPo (pGo (pOr cs) (.inr a)) = .inr a1) : ∃ t, pOr cs a = .inr (t, a1) := by
  have h : pPo (pOr cs a) = .inr a1 := h
  cases hx : pOr cs a with
  | inl q => rw [hx] at h; cases h
  | inr x => rw [hx] at h; cases h; exact ⟨x.1, rfl⟩
