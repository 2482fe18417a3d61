/-! THE GHOST HEAP: a run's own cells as a partial map from addresses to entries (objects by fields, arrays by contents), lists and texts as one entry each; the kit's rows over it -/
def gCl : List vw_C := [(RX0, TX0, 4), (RX1, TX1, 6), (RX2, TX2, 16), (RX3, TX3, 6), (RX4, TX4, 8), (RX5, TX5, 2), (RX6, TX6, 7), (RX7, TX7, 4), (RJ2, TJ2, 3), (RJ7, TJ7, 4)]
/-- a run's constants: class numbers and field places; array classes (0 int, 1 boolean, 2 float, 3 byte, 4 Object); the list's empty array; the first address that is the run's own; the Class object of Object[] -/
abbrev gK : Type := va_G × (Nat → ClassId) × Nat × Nat × Nat
abbrev kD (K : gK) : va_G := K.1
abbrev kC (K : gK) : Nat → ClassId := K.2.1
abbrev kE (K : gK) : Nat := K.2.2.1
abbrev k0 (K : gK) : Nat := K.2.2.2.1
abbrev kM (K : gK) : Nat := K.2.2.2.2
abbrev gTys (K : gK) : List (ClassId × FieldType) := [(kC K 0, .int), (kC K 1, .boolean), (kC K 2, .float), (kC K 3, .byte), (kC K 4, .object "java/lang/Object")]
def gA (K : gK) : Nat → Prop := fun q => k0 K ≤ q
/-- partial maps -/
def oU {α : Type} (f : Nat → Option α) (a : Nat) (x : α) : Nat → Option α := fun q => if q = a then some x else f q
def oD {α : Type} (f : Nat → Option α) (a : Nat) : Nat → Option α := fun q => if q = a then none else f q
theorem oU_s {α : Type} {f : Nat → Option α} {a : Nat} {x : α} : oU f a x a = some x := if_pos rfl
theorem oU_n {α : Type} {f : Nat → Option α} {a b : Nat} {x : α} (h : b ≠ a) : oU f a x b = f b := if_neg h
theorem oD_s {α : Type} {f : Nat → Option α} {a : Nat} : oD f a a = none := if_pos rfl
theorem oD_n {α : Type} {f : Nat → Option α} {a b : Nat} (h : b ≠ a) : oD f a b = f b := if_neg h
theorem oU_uu {α : Type} {f : Nat → Option α} {a : Nat} {x y : α} : oU (oU f a x) a y = oU f a y := by
  funext q
  by_cases h : q = a <;> simp [oU, h]
theorem oU_same {α : Type} {f : Nat → Option α} {a : Nat} {x : α} (h : f a = some x) : oU f a x = f := by
  funext q
  by_cases e : q = a
  · subst e; simp [oU, h]
  · simp [oU, e]
theorem oU_comm {α : Type} {f : Nat → Option α} {a b : Nat} {x y : α} (h : a ≠ b) : oU (oU f a x) b y = oU (oU f b y) a x := by
  funext q
  by_cases e1 : q = a <;> by_cases e2 : q = b <;> simp [oU, e1, e2]
  · exact absurd (e1.symm.trans e2) h
  · intro q; exact absurd q h
  · intro q; exact absurd q.symm h
/-- two addresses with different entries differ -/
theorem oNe {α : Type} {f : Nat → Option α} {a b : Nat} {x y : α} (ha : f a = some x) (hb : f b = some y) (h : x ≠ y) : a ≠ b := fun e => h (Option.some.inj (ha.symm.trans (e ▸ hb)))
theorem oNn {α : Type} {f : Nat → Option α} {a b : Nat} {x : α} (ha : f a = some x) (hb : f b = none) : a ≠ b := fun e => by rw [e, hb] at ha; cases ha
/-- raw entries stand in the heap -/
def gP (D : va_G) (Rw : Nat → Option va_E) (H : Heap) : Prop := ∀ (a : Nat) (x : va_E), Rw a = some x → va_at D gCl (a, x) H
theorem gP.one {D : va_G} {Rw : Nat → Option va_E} {H : Heap} (h : gP D Rw H) {a : Nat} {x : va_E} (ha : Rw a = some x) : va_P D gCl [(a, x)] H := by
  intro k q hk
  match k, hk with
  | 0, hk => cases hk; exact h a x ha
  | k + 1, hk => simp at hk
/-- the writable part of a raw map as a list of the kit -/
theorem gP.list {D : va_G} {Rw : Nat → Option va_E} {H : Heap} (h : gP D Rw H) (z : Nat) : ∃ ws : va_W, va_P D gCl ws H ∧ va_D (fun q => z ≤ q) ws ∧ (∀ (a : Nat) (x : va_E), Rw a = some x → z ≤ a → ∃ k : Nat, ws[k]? = some (a, x)) ∧ ∀ (k : Nat) (q : Nat × va_E), ws[k]? = some q → Rw q.1 = some q.2 ∧ z ≤ q.1 := by
  let F : Nat → Option (Nat × va_E) := fun a => if z ≤ a then (Rw a).map (fun x => (a, x)) else none
  have hF : ∀ (a : Nat) (q : Nat × va_E), F a = some q → q.1 = a ∧ Rw a = some q.2 ∧ z ≤ a := by
    intro a q hq
    by_cases hz : z ≤ a
    · simp only [F, if_pos hz] at hq
      cases hr : Rw a with
      | none => rw [hr] at hq; cases hq
      | some x => rw [hr] at hq; cases hq; exact ⟨rfl, rfl, hz⟩
    · simp only [F, if_neg hz] at hq
      cases hq
  have hq : ∀ (k : Nat) (q : Nat × va_E), ((List.range H.size).filterMap F)[k]? = some q → Rw q.1 = some q.2 ∧ z ≤ q.1 := by
    intro k q hk
    obtain ⟨a, -, ha⟩ := List.mem_filterMap.mp (List.mem_of_getElem? hk)
    obtain ⟨e1, e2, e3⟩ := hF a q ha
    exact ⟨by rw [e1]; exact e2, by rw [e1]; exact e3⟩
  have hpw : List.Pairwise (fun p q : Nat × va_E => p.1 < q.1) ((List.range H.size).filterMap F) := by
    refine List.Pairwise.filterMap F ?_ List.pairwise_lt_range
    intro a a' hlt b hb b' hb'
    rw [(hF a b hb).1, (hF a' b' hb').1]
    exact hlt
  refine ⟨(List.range H.size).filterMap F, fun k q hk => h q.1 q.2 (hq k q hk).1, ⟨fun i j p q hi hj he => ?_, fun k q hk => (hq k q hk).2⟩, fun a x hx hz => ?_, hq⟩
  · obtain ⟨li, gi⟩ := List.getElem?_eq_some_iff.mp hi
    obtain ⟨lj, gj⟩ := List.getElem?_eq_some_iff.mp hj
    have hg := List.pairwise_iff_getElem.mp hpw
    rcases Nat.lt_trichotomy i j with c | c | c
    · have := hg i j li lj c
      rw [gi, gj] at this
      omega
    · exact c
    · have := hg j i lj li c
      rw [gi, gj] at this
      omega
  · refine List.getElem?_of_mem (List.mem_filterMap.mpr ⟨a, List.mem_range.mpr ((h a x hx).lt), ?_⟩)
    simp only [F, if_pos hz, hx]
    rfl
/-- behind a row that wrote one place of the list -/
theorem gP.setL {D : va_G} {Rw : Nat → Option va_E} {H H1 H0 : Heap} {K : gK} {locs : List Loc} {locs1 : List Loc} (h : gP D Rw H) (hS : va_S (gA K) H0 H locs) (hS1 : va_S (gA K) H0 H1 locs1) (hz : k0 K ≤ H0.size) {ws : va_W} (h3 : ∀ (a : Nat) (x : va_E), Rw a = some x → k0 K ≤ a → ∃ k : Nat, ws[k]? = some (a, x)) (h4 : ∀ (k : Nat) (q : Nat × va_E), ws[k]? = some q → Rw q.1 = some q.2 ∧ k0 K ≤ q.1)
    {k a : Nat} {x0 x : va_E} (hk : ws[k]? = some (a, x0)) (hP : va_P D gCl (ws.set k (a, x)) H1) : gP D (oU Rw a x) H1 := by
  have hl := (List.getElem?_eq_some_iff.mp hk).1
  intro b y hb
  by_cases e : b = a
  · subst e
    rw [oU_s] at hb
    cases hb
    exact hP k (b, x) (List.getElem?_set_self hl)
  · rw [oU_n e] at hb
    by_cases hzb : k0 K ≤ b
    · obtain ⟨j, hj⟩ := h3 b y hb hzb
      have hjk : k ≠ j := fun q => by
        subst q
        rw [hk] at hj
        cases hj
        exact e rfl
      exact hP j (b, y) (by rw [List.getElem?_set_ne hjk]; exact hj)
    · have hA : ¬ gA K b := hzb
      have hbl : b < H0.size := Nat.lt_of_lt_of_le (Nat.not_le.mp hzb) hz
      exact (h b y hb).kept (by rw [hS1.2.1 b hbl hA, hS.2.1 b hbl hA])
/-- behind a row that made a cell -/
theorem gP.newL {D : va_G} {Rw : Nat → Option va_E} {H H1 H0 : Heap} {K : gK} {locs : List Loc} {locs1 : List Loc} (h : gP D Rw H) (hS : va_S (gA K) H0 H locs) (hS1 : va_S (gA K) H0 H1 locs1) (hz : k0 K ≤ H0.size) {ws : va_W} (h3 : ∀ (a : Nat) (x : va_E), Rw a = some x → k0 K ≤ a → ∃ k : Nat, ws[k]? = some (a, x))
    {q : Nat} {x : va_E} (hP : va_P D gCl (ws ++ [(q, x)]) H1) (hD : va_D (gA K) (ws ++ [(q, x)])) : gP D (oU Rw q x) H1 ∧ Rw q = none ∧ k0 K ≤ q := by
  have hlast : (ws ++ [(q, x)])[ws.length]? = some (q, x) := by simp
  have hq0 : k0 K ≤ q := hD.2 _ _ hlast
  have hfresh : Rw q = none := by
    cases hr : Rw q with
    | none => rfl
    | some y =>
      obtain ⟨j, hj⟩ := h3 q y hr hq0
      have hjl := (List.getElem?_eq_some_iff.mp hj).1
      have := hD.1 j ws.length (q, y) (q, x) (by rw [List.getElem?_append_left hjl]; exact hj) hlast rfl
      omega
  refine ⟨?_, hfresh, hq0⟩
  intro b y hb
  by_cases e : b = q
  · subst e
    rw [oU_s] at hb
    cases hb
    exact hP _ _ hlast
  · rw [oU_n e] at hb
    by_cases hzb : k0 K ≤ b
    · obtain ⟨j, hj⟩ := h3 b y hb hzb
      have hjl := (List.getElem?_eq_some_iff.mp hj).1
      exact hP j (b, y) (by rw [List.getElem?_append_left hjl]; exact hj)
    · have hA : ¬ gA K b := hzb
      have hbl : b < H0.size := Nat.lt_of_lt_of_le (Nat.not_le.mp hzb) hz
      exact (h b y hb).kept (by rw [hS1.2.1 b hbl hA, hS.2.1 b hbl hA])
/-! the second floor: a list with its array is one entry, a text with its bytes is one entry -/
abbrev gE : Type := va_E ⊕ (List Nat ⊕ List Nat)
abbrev gG : Type := Nat → Option gE
def alF (m : Int32) (arr n : Nat) : va_E := .inr (8, [.int m, .ref arr, .int (nI n)])
def alA (K : gK) (cap : Nat) (f : Nat → Option Nat) : va_E := .inl (kC K 4, (cap, .inr (.inr (.inr (.inr f)))))
def alOk (xs : List Nat) (cap : Nat) (f : Nat → Option Nat) : Prop := xs.length ≤ cap ∧ cap ≤ 1000 ∧ ∀ (i : Nat) (h : i < xs.length), f i = some xs[i]
def sbF (arr : Nat) (co ml : Int32) (n : Nat) : va_E := .inr (9, [.ref arr, .int co, .int ml, .int (nI n)])
def sbA (K : gK) (cap : Nat) (f : Nat → Int32) : va_E := .inl (kC K 3, (cap, .inl f))
def sbOk (cs : List Nat) (co : Int32) (cap : Nat) (f : Nat → Int32) : Prop := sb_Fit f ∧ cap ≤ 1000 ∧
  ((co = 0 ∧ cs.length ≤ cap ∧ cap ≤ 400 ∧ ∀ (i : Nat) (h : i < cs.length), cs[i] < 256 ∧ f i = sb_b cs[i]) ∨
   (co = 1 ∧ 2 * cs.length ≤ cap ∧ ∀ (i : Nat) (h : i < cs.length), cs[i] < 65536 ∧ f (2 * i) = sb_b (cs[i] % 256) ∧ f (2 * i + 1) = sb_b (cs[i] / 256)))
def gLf (K : gK) (G : gG) (Rw : Nat → Option va_E) : Prop := ∃ ar : Nat → Nat,
  (∀ (a : Nat) (x : va_E), G a = some (.inl x) → Rw a = some x) ∧
  (∀ (a : Nat) (xs : List Nat), G a = some (.inr (.inl xs)) → ∃ (m : Int32) (cap : Nat) (f : Nat → Option Nat), Rw a = some (alF m (ar a) xs.length) ∧ Rw (ar a) = some (alA K cap f) ∧ alOk xs cap f) ∧
  (∀ (a : Nat) (cs : List Nat), G a = some (.inr (.inr cs)) → ∃ (co ml : Int32) (cap : Nat) (f : Nat → Int32), Rw a = some (sbF (ar a) co ml cs.length) ∧ Rw (ar a) = some (sbA K cap f) ∧ sbOk cs co cap f) ∧
  (∀ (a : Nat) (x : List Nat ⊕ List Nat), G a = some (.inr x) → ar a = kE K ∨ G (ar a) = none) ∧
  (∀ (a b : Nat) (x y : List Nat ⊕ List Nat), G a = some (.inr x) → G b = some (.inr y) → ar a = ar b → ar a ≠ kE K → a = b) ∧
  G (kE K) = some (.inl (alA K 0 (fun _ => none))) ∧ kE K < k0 K ∧ ∀ (a : Nat) (x : va_E), Rw a = some x → a = kE K ∨ k0 K ≤ a
theorem gLf.raw {K : gK} {G : gG} {Rw : Nat → Option va_E} (h : gLf K G Rw) {a : Nat} {x : va_E} (ha : G a = some (.inl x)) : Rw a = some x := by
  obtain ⟨ar, h1, -⟩ := h
  exact h1 a x ha
theorem gLf.has {K : gK} {G : gG} {Rw : Nat → Option va_E} (h : gLf K G Rw) {a : Nat} {x : gE} (ha : G a = some x) : ∃ y, Rw a = some y := by
  obtain ⟨ar, h1, h2, h3, -⟩ := h
  match x, ha with
  | .inl x, ha => exact ⟨x, h1 a x ha⟩
  | .inr (.inl xs), ha =>
    obtain ⟨m, cap, f, e, -⟩ := h2 a xs ha
    exact ⟨_, e⟩
  | .inr (.inr cs), ha =>
    obtain ⟨co, ml, cap, f, e, -⟩ := h3 a cs ha
    exact ⟨_, e⟩
theorem gLf.upd {K : gK} {G : gG} {Rw : Nat → Option va_E} (h : gLf K G Rw) {a : Nat} {x0 x : va_E} (ha : G a = some (.inl x0)) (hE : a ≠ kE K) : gLf K (oU G a (.inl x)) (oU Rw a x) := by
  obtain ⟨ar, h1, h2, h3, h4, h5, h6, h7, h8⟩ := h
  have hb : ∀ (b : Nat) (y : List Nat ⊕ List Nat), oU G a (.inl x) b = some (.inr y) → b ≠ a ∧ G b = some (.inr y) := by
    intro b y hb
    by_cases e : b = a
    · subst e; rw [oU_s] at hb; cases hb
    · rw [oU_n e] at hb; exact ⟨e, hb⟩
  have har : ∀ (b : Nat) (y : List Nat ⊕ List Nat), G b = some (.inr y) → ar b ≠ a := by
    intro b y hy e
    rcases h4 b y hy with q | q
    · exact hE (e.symm.trans q)
    · rw [e, ha] at q; cases q
  refine ⟨ar, fun b y hy => ?_, fun b xs hx => ?_, fun b cs hx => ?_, fun b y hy => ?_, fun b c y z hy hz e => ?_, ?_, h7, fun b y hy => ?_⟩
  · by_cases e : b = a
    · subst e; rw [oU_s] at hy; cases hy; exact oU_s
    · rw [oU_n e] at hy ⊢; exact h1 b y hy
  · obtain ⟨e, hx⟩ := hb b _ hx
    obtain ⟨m, cap, f, r1, r2, r3⟩ := h2 b xs hx
    exact ⟨m, cap, f, by rw [oU_n e]; exact r1, by rw [oU_n (har b _ hx)]; exact r2, r3⟩
  · obtain ⟨e, hx⟩ := hb b _ hx
    obtain ⟨co, ml, cap, f, r1, r2, r3⟩ := h3 b cs hx
    exact ⟨co, ml, cap, f, by rw [oU_n e]; exact r1, by rw [oU_n (har b _ hx)]; exact r2, r3⟩
  · obtain ⟨e, hy⟩ := hb b _ hy
    rcases h4 b y hy with q | q
    · exact Or.inl q
    · exact Or.inr (by rw [oU_n (har b _ hy)]; exact q)
  · exact h5 b c y z (hb b _ hy).2 (hb c _ hz).2 e
  · rw [oU_n hE.symm]; exact h6
  · by_cases e : b = a
    · subst e; exact h8 b x0 (h1 b x0 ha)
    · rw [oU_n e] at hy; exact h8 b y hy
theorem gLf.new {K : gK} {G : gG} {Rw : Nat → Option va_E} (h : gLf K G Rw) {q : Nat} {x : va_E} (hq : Rw q = none) (hz : k0 K ≤ q) : gLf K (oU G q (.inl x)) (oU Rw q x) ∧ G q = none := by
  have hG : G q = none := by
    cases hg : G q with
    | none => rfl
    | some y =>
      obtain ⟨z, hz⟩ := h.has hg
      rw [hq] at hz; cases hz
  obtain ⟨ar, h1, h2, h3, h4, h5, h6, h7, h8⟩ := h
  refine ⟨?_, hG⟩
  have ne : ∀ (b : Nat) (y : va_E), Rw b = some y → b ≠ q := fun b y hy e => by rw [e, hq] at hy; cases hy
  have hb : ∀ (b : Nat) (y : List Nat ⊕ List Nat), oU G q (.inl x) b = some (.inr y) → G b = some (.inr y) := by
    intro b y hb
    by_cases e : b = q
    · subst e; rw [oU_s] at hb; cases hb
    · rw [oU_n e] at hb; exact hb
  refine ⟨ar, fun b y hy => ?_, fun b xs hx => ?_, fun b cs hx => ?_, fun b y hy => ?_, fun b c y z hy hz e => ?_, ?_, h7, fun b y hy => ?_⟩
  · by_cases e : b = q
    · subst e; rw [oU_s] at hy; cases hy; exact oU_s
    · rw [oU_n e] at hy ⊢; exact h1 b y hy
  · obtain ⟨m, cap, f, r1, r2, r3⟩ := h2 b xs (hb b _ hx)
    exact ⟨m, cap, f, by rw [oU_n (ne _ _ r1)]; exact r1, by rw [oU_n (ne _ _ r2)]; exact r2, r3⟩
  · obtain ⟨co, ml, cap, f, r1, r2, r3⟩ := h3 b cs (hb b _ hx)
    exact ⟨co, ml, cap, f, by rw [oU_n (ne _ _ r1)]; exact r1, by rw [oU_n (ne _ _ r2)]; exact r2, r3⟩
  · have hy := hb b _ hy
    rcases h4 b y hy with w | w
    · exact Or.inl w
    · refine Or.inr ?_
      have hne : ar b ≠ q := by
        match y, hy with
        | .inl xs, hy => obtain ⟨m, cap, f, -, r2, -⟩ := h2 b xs hy; exact ne _ _ r2
        | .inr cs, hy => obtain ⟨co, ml, cap, f, -, r2, -⟩ := h3 b cs hy; exact ne _ _ r2
      rw [oU_n hne]; exact w
  · exact h5 b c y z (hb b _ hy) (hb c _ hz) e
  · rw [oU_n (fun e => by omega)]; exact h6
  · by_cases e : b = q
    · exact Or.inr (by rw [e]; exact hz)
    · rw [oU_n e] at hy; exact h8 b y hy
/-- a raw entry is forgotten -/
theorem gLf.drop {K : gK} {G : gG} {Rw : Nat → Option va_E} (h : gLf K G Rw) {q : Nat} {x : va_E} (hq : G q = some (.inl x)) (hE : q ≠ kE K) : gLf K (oD G q) Rw := by
  obtain ⟨ar, h1, h2, h3, h4, h5, h6, h7, h8⟩ := h
  have hb : ∀ (b : Nat) (y : gE), oD G q b = some y → G b = some y := by
    intro b y hb
    by_cases e : b = q
    · subst e; rw [oD_s] at hb; cases hb
    · rw [oD_n e] at hb; exact hb
  refine ⟨ar, fun b y hy => h1 b y (hb b _ hy), fun b xs hx => h2 b xs (hb b _ hx), fun b cs hx => h3 b cs (hb b _ hx), fun b y hy => ?_, fun b c y z hy hz e => h5 b c y z (hb b _ hy) (hb c _ hz) e, by rw [oD_n hE.symm]; exact h6, h7, h8⟩
  rcases h4 b y (hb b _ hy) with w | w
  · exact Or.inl w
  · refine Or.inr ?_
    by_cases e : ar b = q
    · rw [e]; exact oD_s
    · rw [oD_n e]; exact w
/-- a list is opened -/
theorem gLf.openL {K : gK} {G : gG} {Rw : Nat → Option va_E} (h : gLf K G Rw) {a : Nat} {xs : List Nat} (ha : G a = some (.inr (.inl xs))) : ∃ (m : Int32) (cap : Nat) (f : Nat → Option Nat) (arr : Nat), alOk xs cap f ∧ arr ≠ a ∧ (arr = kE K ∧ cap = 0 ∨ arr ≠ kE K ∧ G arr = none) ∧ gLf K (oU (oU G arr (.inl (alA K cap f))) a (.inl (alF m arr xs.length))) Rw := by
  obtain ⟨ar, h1, h2, h3, h4, h5, h6, h7, h8⟩ := h
  obtain ⟨m, cap, f, r1, r2, r3⟩ := h2 a xs ha
  have hne : ar a ≠ a := fun e => by
    rw [e, r1] at r2
    cases r2
  have hE : ar a = kE K → cap = 0 ∧ f = fun _ => none := fun e => by
    have q := h1 _ _ h6
    rw [e, q] at r2
    cases r2
    exact ⟨rfl, rfl⟩
  have hae : a ≠ kE K := fun e => by rw [e, h6] at ha; cases ha
  have hb : ∀ (b : Nat) (y : List Nat ⊕ List Nat), oU (oU G (ar a) (.inl (alA K cap f))) a (.inl (alF m (ar a) xs.length)) b = some (.inr y) → b ≠ a ∧ b ≠ ar a ∧ G b = some (.inr y) := by
    intro b y hb
    by_cases e : b = a
    · subst e; rw [oU_s] at hb; cases hb
    · rw [oU_n e] at hb
      by_cases e2 : b = ar a
      · subst e2; rw [oU_s] at hb; cases hb
      · rw [oU_n e2] at hb; exact ⟨e, e2, hb⟩
  refine ⟨m, cap, f, ar a, r3, hne, ?_, ar, fun b y hy => ?_, fun b ys hy => h2 b ys (hb b _ hy).2.2, fun b ys hy => h3 b ys (hb b _ hy).2.2, fun b y hy => ?_, fun b c y z hy hz e n => h5 b c y z (hb b _ hy).2.2 (hb c _ hz).2.2 e n, ?_, h7, h8⟩
  · by_cases e : ar a = kE K
    · exact Or.inl ⟨e, (hE e).1⟩
    · rcases h4 a _ ha with q | q
      · exact absurd q e
      · exact Or.inr ⟨e, q⟩
  · by_cases e : b = a
    · subst e; rw [oU_s] at hy; cases hy; exact r1
    · rw [oU_n e] at hy
      by_cases e2 : b = ar a
      · subst e2; rw [oU_s] at hy; cases hy; exact r2
      · rw [oU_n e2] at hy; exact h1 b y hy
  · obtain ⟨n1, n2, n3⟩ := hb b _ hy
    rcases h4 b y n3 with q | q
    · exact Or.inl q
    · by_cases e : ar b = kE K
      · exact Or.inl e
      · refine Or.inr ?_
        have e1 : ar b ≠ a := fun w => by rw [w, ha] at q; cases q
        have e2 : ar b ≠ ar a := fun w => n1 (h5 b a _ _ n3 ha w e)
        rw [oU_n e1, oU_n e2]; exact q
  · rw [oU_n hae.symm]
    by_cases e : kE K = ar a
    · obtain ⟨c1, c2⟩ := hE e.symm
      subst c1; subst c2
      rw [← e, oU_s]
    · rw [oU_n e]; exact h6
/-- and closed again: over the empty array -/
theorem gLf.closeE {K : gK} {G : gG} {Rw : Nat → Option va_E} (h : gLf K G Rw) {a : Nat} {m : Int32} {n : Nat} (ha : G a = some (.inl (alF m (kE K) n))) (hn : n = 0) : gLf K (oU G a (.inr (.inl []))) Rw := by
  subst hn
  obtain ⟨ar, h1, h2, h3, h4, h5, h6, h7, h8⟩ := h
  have hae : a ≠ kE K := fun e => by rw [e, h6] at ha; cases ha
  have hb : ∀ (b : Nat) (y : gE), b ≠ a → oU G a (.inr (.inl [])) b = some y → G b = some y := by
    intro b y e hb
    rw [oU_n e] at hb; exact hb
  have hu : ∀ b : Nat, b ≠ a → (if b = a then kE K else ar b) = ar b := fun b e => if_neg e
  refine ⟨fun b => if b = a then kE K else ar b, fun b y hy => ?_, fun b ys hy => ?_, fun b ys hy => ?_, fun b y hy => ?_, fun b c y z hy hz e n => ?_, by rw [oU_n hae.symm]; exact h6, h7, h8⟩
  · by_cases e : b = a
    · subst e; rw [oU_s] at hy; cases hy
    · exact h1 b y (hb b _ e hy)
  · by_cases e : b = a
    · subst e
      rw [oU_s] at hy
      cases hy
      refine ⟨m, 0, fun _ => none, ?_, ?_, ?_⟩
      · simp only [if_true]; exact h1 _ _ ha
      · simp only [if_true]; exact h1 _ _ h6
      · exact ⟨Nat.le_refl _, by omega, fun i h => by simp at h⟩
    · simp only [if_neg e]
      exact h2 b ys (hb b _ e hy)
  · by_cases e : b = a
    · subst e; rw [oU_s] at hy; cases hy
    · simp only [if_neg e]
      exact h3 b ys (hb b _ e hy)
  · by_cases e : b = a
    · exact Or.inl (if_pos e)
    · simp only [if_neg e]
      rcases h4 b y (hb b _ e hy) with q | q
      · exact Or.inl q
      · refine Or.inr ?_
        have e1 : ar b ≠ a := fun w => by rw [w, ha] at q; cases q
        rw [oU_n e1]; exact q
  · by_cases e1 : b = a
    · exact absurd (by simp only [if_pos e1]) n
    · by_cases e2 : c = a
      · simp only [if_pos e2] at e
        exact absurd e n
      · simp only [if_neg e1, if_neg e2] at e n
        exact h5 b c y z (hb b _ e1 hy) (hb c _ e2 hz) e n
/-- over an array of its own -/
theorem gLf.closeN {K : gK} {G : gG} {Rw : Nat → Option va_E} (h : gLf K G Rw) {a arr n cap : Nat} {m : Int32} {f : Nat → Option Nat} {xs : List Nat} (ha : G a = some (.inl (alF m arr n))) (hr : G arr = some (.inl (alA K cap f))) (hE : arr ≠ kE K) (hn : n = xs.length) (hok : alOk xs cap f) : gLf K (oU (oD G arr) a (.inr (.inl xs))) Rw := by
  subst hn
  obtain ⟨ar, h1, h2, h3, h4, h5, h6, h7, h8⟩ := h
  have hae : a ≠ kE K := fun e => by rw [e, h6] at ha; cases ha
  have hra : arr ≠ a := fun e => by rw [e, ha] at hr; cases hr
  have hb : ∀ (b : Nat) (y : gE), b ≠ a → oU (oD G arr) a (.inr (.inl xs)) b = some y → b ≠ arr ∧ G b = some y := by
    intro b y e hb
    rw [oU_n e] at hb
    by_cases e2 : b = arr
    · subst e2; rw [oD_s] at hb; cases hb
    · rw [oD_n e2] at hb; exact ⟨e2, hb⟩
  have hno : ∀ (b : Nat) (y : List Nat ⊕ List Nat), G b = some (.inr y) → ar b ≠ arr ∧ ar b ≠ a := by
    intro b y hy
    rcases h4 b y hy with q | q
    · exact ⟨fun w => hE (w.symm.trans q), fun w => hae (w.symm.trans q)⟩
    · exact ⟨fun w => (by rw [w, hr] at q; cases q), fun w => (by rw [w, ha] at q; cases q)⟩
  refine ⟨fun b => if b = a then arr else ar b, fun b y hy => ?_, fun b ys hy => ?_, fun b ys hy => ?_, fun b y hy => ?_, fun b c y z hy hz e n => ?_, by rw [oU_n hae.symm, oD_n hE.symm]; exact h6, h7, h8⟩
  · by_cases e : b = a
    · subst e; rw [oU_s] at hy; cases hy
    · exact h1 b y (hb b _ e hy).2
  · by_cases e : b = a
    · subst e
      rw [oU_s] at hy
      cases hy
      refine ⟨m, cap, f, ?_, ?_, hok⟩
      · simp only [if_true]; exact h1 _ _ ha
      · simp only [if_true]; exact h1 _ _ hr
    · simp only [if_neg e]
      exact h2 b ys (hb b _ e hy).2
  · by_cases e : b = a
    · subst e; rw [oU_s] at hy; cases hy
    · simp only [if_neg e]
      exact h3 b ys (hb b _ e hy).2
  · by_cases e : b = a
    · subst e
      simp only [if_true]
      exact Or.inr (by rw [oU_n hra]; exact oD_s)
    · simp only [if_neg e]
      obtain ⟨n1, n2⟩ := hb b _ e hy
      rcases h4 b y n2 with q | q
      · exact Or.inl q
      · refine Or.inr ?_
        rw [oU_n (hno b y n2).2, oD_n (hno b y n2).1]; exact q
  · by_cases e1 : b = a <;> by_cases e2 : c = a
    · exact e1.trans e2.symm
    · simp only [if_pos e1, if_neg e2] at e
      exact absurd e.symm (hno c z (hb c _ e2 hz).2).1
    · simp only [if_neg e1, if_pos e2] at e
      exact absurd e (hno b y (hb b _ e1 hy).2).1
    · simp only [if_neg e1, if_neg e2] at e n
      exact h5 b c y z (hb b _ e1 hy).2 (hb c _ e2 hz).2 e n
