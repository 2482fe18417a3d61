/-! THE REFERENCE's WORLD: the object NailedOrdersModel and its arrays as one function of its numbers; loops; shared rows -/
section GLoop
variable {p : Program} {l : Launch} {e : Env} {R : Room} {s : State} {m : MethodId} {args : Array Value} {below : List Frame} {meth : Method} {c : Code} {H : Heap} {locs : List Loc} {cells slots : Nat} {Q : State → Prop}
variable {cc : ByteArray} {pc nL : Nat} {ls : Array Slot} {rest : List Value} {K : gK} {G : gG} {own : String}
/-- a loop: at its head an invariant with a measure that falls -/
theorem g_loop (I : Nat → Array Slot → gG → Nat → Nat → Prop)
    (step : ∀ (k : Nat) (ls : Array Slot) (G : gG) (H : Heap) (locs : List Loc) (cells slots : Nat), I k ls G cells slots → gR K G H → va_S (gA K) s.heap H locs →
      (∀ (k' : Nat) (ls' : Array Slot) (G' : gG) (H' : Heap) (locs' : List Loc) (cells' slots' : Nat), k' < k → I k' ls' G' cells' slots' → gR K G' H' → va_S (gA K) s.heap H' locs' → W p l e R s m args below meth c H' locs' cells' slots' Q (F0 m pc ls' [])) →
      W p l e R s m args below meth c H locs cells slots Q (F0 m pc ls []))
    (k : Nat) (hI : I k ls G cells slots) (hR : gR K G H) (hS : va_S (gA K) s.heap H locs) : W p l e R s m args below meth c H locs cells slots Q (F0 m pc ls []) := by
  have key : ∀ (n k : Nat), k < n → ∀ (ls : Array Slot) (G : gG) (H : Heap) (locs : List Loc) (cells slots : Nat), I k ls G cells slots → gR K G H → va_S (gA K) s.heap H locs → W p l e R s m args below meth c H locs cells slots Q (F0 m pc ls []) := by
    intro n
    induction n with
    | zero => intro k hk; exact absurd hk (Nat.not_lt_zero _)
    | succ n ih =>
      intro k hk ls G H locs cells slots hI hR hS
      exact step k ls G H locs cells slots hI hR hS (fun k' ls' G' H' locs' cells' slots' hlt hI' hR' hS' => ih k' (by omega) ls' G' H' locs' cells' slots' hI' hR' hS')
  exact key (k + 1) k (Nat.lt_succ_self k) ls G H locs cells slots hI hR hS
/-- a place where ways join -/
theorem g_cut (pc' : Nat) (I : Array Slot → List Value → gG → Nat → Nat → Prop) {g : JFrame}
    (hJ : ∀ (ls : Array Slot) (st : List Value) (G : gG) (H : Heap) (locs : List Loc) (cells slots : Nat), I ls st G cells slots → gR K G H → va_S (gA K) s.heap H locs → W p l e R s m args below meth c H locs cells slots Q (F0 m pc' ls st))
    (k : (∀ (ls : Array Slot) (st : List Value) (G : gG) (H : Heap) (locs : List Loc) (cells slots : Nat), I ls st G cells slots → gR K G H → va_S (gA K) s.heap H locs → W p l e R s m args below meth c H locs cells slots Q (F0 m pc' ls st)) → W p l e R s m args below meth c H locs cells slots Q g) : W p l e R s m args below meth c H locs cells slots Q g := k hJ
/-- the top of the stack by another name -/
theorem g_topi {x : Int32} (y : Int32) (h : x = y) (k : W p l e R s m args below meth c H locs cells slots Q (F0 m pc ls (.int y :: rest))) : W p l e R s m args below meth c H locs cells slots Q (F0 m pc ls (.int x :: rest)) := h ▸ k
theorem g_topf {x : UInt32} (y : UInt32) (h : x = y) (k : W p l e R s m args below meth c H locs cells slots Q (F0 m pc ls (.float y :: rest))) : W p l e R s m args below meth c H locs cells slots Q (F0 m pc ls (.float x :: rest)) := h ▸ k
theorem g_topv {x : Value} (y : Value) (h : x = y) (k : W p l e R s m args below meth c H locs cells slots Q (F0 m pc ls (y :: rest))) : W p l e R s m args below meth c H locs cells slots Q (F0 m pc ls (x :: rest)) := h ▸ k
/-- iinc of a counter -/
theorem g_inc (M : gM K p s m args c cc nL own) {i nL' k : Nat} {j : Nat} {lv lv' : List (Nat × Value)} (hdg : decode cc pc = .ok (.iinc i 1, 3)) (h : lv_has ls nL' lv) (hk : lv[k]? = some (i, .int (nI j))) (hn : i < nL') (hl : (i, Value.int (nI (j + 1))) :: lv.filter (fun q => !(q.1 == i) && !(q.1 + 1 == i && q.2.category == 2)) = lv')
    (kk : ∀ ls' : Array Slot, lv_has ls' nL' lv' → W p l e R s m args below meth c H locs cells slots Q (F0 m (pc + 3) ls' rest)) : W p l e R s m args below meth c H locs cells slots Q (F0 m pc ls rest) :=
  lv_iinc M.hx M.hb hdg h hk (v := nI (j + 1)) (nI_1 j) hn hl kk
/-- Float.intBitsToFloat, floatToRawIntBits -/
theorem g_i2f (M : gM K p s m args c cc nL own) (hsz : ls.size = nL) {index : Nat} {b : Int32} (hlink : (Cond.methodLink own index ⟨"java/lang/Float", "intBitsToFloat", "(I)F"⟩) ∈ lw_all) (hnat : (Cond.native ⟨"java/lang/Float", "intBitsToFloat", "(I)F"⟩) ∈ lw_all) (hstat : (Cond.static ⟨"java/lang/Float", "intBitsToFloat", "(I)F"⟩) ∈ lw_all) (hinit : (Cond.initialized "java/lang/Float") ∈ lw_all) (hv : vn_sni2f b = false) (hdg : decode cc pc = .ok (.invokestatic index, 3)) (hframes : 1 ≤ R.frames) (hlocals : (rest.map fun v => v.category).sum + 15 ≤ R.locals)
    (k : W p l e R s m args below meth c H locs cells slots Q (F0 m (pc + 3) ls (.float b.toUInt32 :: rest))) : W p l e R s m args below meth c H locs cells slots Q (F0 m pc ls (.int b :: rest)) := by
  refine vn_i2f M.hx M.hb (M.1.2.2.1.trans hsz.symm) M.hown (M.hts _ hlink) (M.hts _ hnat) (M.hts _ hstat) (M.hts _ hinit) hv hframes hlocals hdg k
theorem g_f2i (M : gM K p s m args c cc nL own) (hsz : ls.size = nL) {index : Nat} {b : UInt32} (hlink : (Cond.methodLink own index ⟨"java/lang/Float", "floatToRawIntBits", "(F)I"⟩) ∈ lw_all) (hnat : (Cond.native ⟨"java/lang/Float", "floatToRawIntBits", "(F)I"⟩) ∈ lw_all) (hstat : (Cond.static ⟨"java/lang/Float", "floatToRawIntBits", "(F)I"⟩) ∈ lw_all) (hinit : (Cond.initialized "java/lang/Float") ∈ lw_all) (hdg : decode cc pc = .ok (.invokestatic index, 3)) (hframes : 1 ≤ R.frames) (hlocals : (rest.map fun v => v.category).sum + 15 ≤ R.locals)
    (k : W p l e R s m args below meth c H locs cells slots Q (F0 m (pc + 3) ls (.int b.toInt32 :: rest))) : W p l e R s m args below meth c H locs cells slots Q (F0 m pc ls (.float b :: rest)) := by
  refine vn_f2i M.hx M.hb (M.1.2.2.1.trans hsz.symm) M.hown (M.hts _ hlink) (M.hts _ hnat) (M.hts _ hstat) (M.hts _ hinit) hframes hlocals hdg k
end GLoop
/-- a truth value as the machine has it -/
def bI (b : Bool) : Int32 := if b then 1 else 0
theorem bI_t {b : Bool} (h : b = true) : bI b = 1 := by rw [h]; rfl
theorem bI_f {b : Bool} (h : b = false) : bI b = 0 := by rw [h]; rfl
theorem bI_0 {b : Bool} : bI b = 0 ↔ b = false := by cases b <;> decide
theorem bI_1 {b : Bool} : bI b = 1 ↔ b = true := by cases b <;> decide
theorem bI_n0 {b : Bool} : ¬ bI b = 0 ↔ b = true := by cases b <;> decide
theorem bI_nar (b : Bool) : narrow .boolean (.int (bI b)) = .int (bI b) := by cases b <;> decide
theorem bI_fit (b : Bool) : fits .boolean (.int (bI b)) = true := by cases b <;> decide
/-- the numbers: fields by their places; the int arrays by their fields' places; hadThat -/
abbrev tV : Type := (Nat → Int32) × (Nat → Nat → Int32) × (Nat → UInt32)
def tF (A : Nat → Nat) (S : Nat → Int32) : List Value := [.int (S 0), .ref (A 1), .ref (A 2), .ref (A 3), .int (S 4), .ref (A 5), .int (S 6), .ref (A 7), .int (S 8), .ref (A 9), .int (S 10), .int (S 11), .int (S 12), .ref (A 13), .ref (A 14), .ref (A 15)]
def tLen : Nat → Nat
  | 5 => 1168
  | 7 => 60
  | 9 => 17
  | 13 => 64
  | 14 => 16
  | 15 => 16
  | _ => 292
def tIx : List Nat := [0, 1, 2, 3, 5, 7, 9, 13, 14, 15]
def tE (K : gK) (A : Nat → Nat) (V : tV) : Nat → gE
  | 0 => .inl (.inr (2, tF A V.1))
  | 14 => .inl (.inl (kC K 1, (16, .inl (V.2.1 14))))
  | 15 => .inl (.inl (kC K 2, (16, .inr (.inr (.inl V.2.2)))))
  | k => .inl (.inl (kC K 0, (tLen k, .inl (V.2.1 k))))
def tInj (A : Nat → Nat) : Prop := ∀ j ∈ tIx, ∀ k ∈ tIx, A j = A k → j = k
def tG (K : gK) (G0 : gG) (A : Nat → Nat) (V : tV) : gG := fun q => match tIx.find? (fun k => A k == q) with
  | some k => some (tE K A V k)
  | none => G0 q
theorem tG_k {K : gK} {G0 : gG} {A : Nat → Nat} {V : tV} (hA : tInj A) {k : Nat} (hk : k ∈ tIx) : tG K G0 A V (A k) = some (tE K A V k) := by
  unfold tG
  cases h : tIx.find? (fun j => A j == A k) with
  | none =>
    have := List.find?_eq_none.mp h k hk
    simp at this
  | some j =>
    have h1 := List.find?_some h
    have h2 := List.mem_of_find?_eq_some h
    have h3 : j = k := hA j h2 k hk (by simpa using h1)
    rw [h3]
theorem tG_off {K : gK} {G0 : gG} {A : Nat → Nat} {V : tV} {q : Nat} (h : ∀ k ∈ tIx, q ≠ A k) : tG K G0 A V q = G0 q := by
  unfold tG
  cases h1 : tIx.find? (fun j => A j == q) with
  | none => rfl
  | some j =>
    have h2 := List.find?_some h1
    have h3 := List.mem_of_find?_eq_some h1
    exact absurd (by simpa using h2 : A j = q).symm (h j h3)
theorem tG_up {K : gK} {G0 : gG} {A : Nat → Nat} {V V' : tV} (hA : tInj A) {k : Nat} (hk : k ∈ tIx) {x : gE} (hx : tE K A V' k = x) (ho : ∀ j ∈ tIx, j ≠ k → tE K A V' j = tE K A V j) : oU (tG K G0 A V) (A k) x = tG K G0 A V' := by
  subst hx
  funext q
  by_cases e : q = A k
  · subst e
    rw [oU_s, tG_k hA hk]
  · rw [oU_n e]
    unfold tG
    cases h1 : tIx.find? (fun j => A j == q) with
    | none => rfl
    | some j =>
      have h2 : A j = q := by simpa using List.find?_some h1
      have h3 := List.mem_of_find?_eq_some h1
      have h4 : j ≠ k := fun z => e (by rw [← h2, z])
      show some (tE K A V j) = some (tE K A V' j)
      rw [ho j h3 h4]
theorem tG_0 {K : gK} {G0 : gG} {A : Nat → Nat} {V : tV} (hA : tInj A) : tG K G0 A V (A 0) = some (.inl (.inr (2, tF A V.1))) := tG_k hA (by decide)
/-- an int array of the reference's -/
def tArr : List Nat := [1, 2, 3, 5, 7, 9, 13]
theorem tE_a {K : gK} {A : Nat → Nat} {V : tV} {k : Nat} (hk : k ∈ tArr) : tE K A V k = .inl (.inl (kC K 0, (tLen k, .inl (V.2.1 k)))) := by
  unfold tArr at hk
  simp only [List.mem_cons, List.not_mem_nil, or_false] at hk
  rcases hk with h | h | h | h | h | h | h <;> subst h <;> rfl
theorem tArr_in {k : Nat} (hk : k ∈ tArr) : k ∈ tIx := by
  unfold tArr at hk
  simp only [List.mem_cons, List.not_mem_nil, or_false] at hk
  rcases hk with h | h | h | h | h | h | h <;> subst h <;> decide
theorem tG_a {K : gK} {G0 : gG} {A : Nat → Nat} {V : tV} (hA : tInj A) (k : Nat) (hk : k ∈ tArr) : tG K G0 A V (A k) = some (.inl (.inl (kC K 0, (tLen k, .inl (V.2.1 k))))) := by rw [tG_k hA (tArr_in hk), tE_a hk]
theorem tG_z {K : gK} {G0 : gG} {A : Nat → Nat} {V : tV} (hA : tInj A) : tG K G0 A V (A 14) = some (.inl (.inl (kC K 1, (16, .inl (V.2.1 14))))) := tG_k hA (by decide)
theorem tG_f {K : gK} {G0 : gG} {A : Nat → Nat} {V : tV} (hA : tInj A) : tG K G0 A V (A 15) = some (.inl (.inl (kC K 2, (16, .inr (.inr (.inl V.2.2)))))) := tG_k hA (by decide)
/-- a field written -/
def tSc : List Nat := [0, 4, 6, 8, 10, 11, 12]
theorem tF_set {A : Nat → Nat} {S : Nat → Int32} {k : Nat} (hk : k ∈ tSc) (x : Int32) : (tF A S).set k (.int x) = tF A (upd S k x) := by
  unfold tSc at hk
  simp only [List.mem_cons, List.not_mem_nil, or_false] at hk
  rcases hk with h | h | h | h | h | h | h <;> subst h <;> rfl
theorem tG_set {K : gK} {G0 : gG} {A : Nat → Nat} {V : tV} (hA : tInj A) {k : Nat} (hk : k ∈ tSc) (x : Int32) : oU (tG K G0 A V) (A 0) (.inl (.inr (2, (tF A V.1).set k (.int x)))) = tG K G0 A (upd V.1 k x, V.2) := by
  refine tG_up hA (by decide) (by rw [tF_set hk]; rfl) ?_
  intro j hj hne
  unfold tIx at hj
  simp only [List.mem_cons, List.not_mem_nil, or_false] at hj
  rcases hj with h | h | h | h | h | h | h | h | h | h <;> subst h <;> first | exact absurd rfl hne | rfl
theorem tE_up {K : gK} {A : Nat → Nat} {V : tV} {k : Nat} {g : Nat → Int32} (j : Nat) (hj : j ∈ tIx) (hne : j ≠ k) : tE K A (V.1, va_up V.2.1 k g, V.2.2) j = tE K A V j := by
  unfold tIx at hj
  simp only [List.mem_cons, List.not_mem_nil, or_false] at hj
  rcases hj with h | h | h | h | h | h | h | h | h | h <;> subst h <;> simp [tE, va_up, hne]
/-- an int array written -/
theorem tG_ar {K : gK} {G0 : gG} {A : Nat → Nat} {V : tV} (hA : tInj A) {k : Nat} (hk : k ∈ tArr) (g : Nat → Int32) : oU (tG K G0 A V) (A k) (.inl (.inl (kC K 0, (tLen k, .inl g)))) = tG K G0 A (V.1, va_up V.2.1 k g, V.2.2) :=
  tG_up hA (tArr_in hk) (by rw [tE_a hk]; simp [va_up]) tE_up
theorem tG_az {K : gK} {G0 : gG} {A : Nat → Nat} {V : tV} (hA : tInj A) (g : Nat → Int32) : oU (tG K G0 A V) (A 14) (.inl (.inl (kC K 1, (16, .inl g)))) = tG K G0 A (V.1, va_up V.2.1 14 g, V.2.2) :=
  tG_up hA (by decide) (by simp [tE, va_up]) tE_up
theorem tG_af {K : gK} {G0 : gG} {A : Nat → Nat} {V : tV} (hA : tInj A) (g : Nat → UInt32) : oU (tG K G0 A V) (A 15) (.inl (.inl (kC K 2, (16, .inr (.inr (.inl g)))))) = tG K G0 A (V.1, V.2.1, g) := by
  refine tG_up hA (by decide) rfl ?_
  intro j hj hne
  unfold tIx at hj
  simp only [List.mem_cons, List.not_mem_nil, or_false] at hj
  rcases hj with h | h | h | h | h | h | h | h | h | h <;> subst h <;> first | exact absurd rfl hne | rfl
section TRow
variable {p : Program} {l : Launch} {e : Env} {R : Room} {s : State} {m : MethodId} {args : Array Value} {below : List Frame} {meth : Method} {c : Code} {H : Heap} {locs : List Loc} {cells slots : Nat} {Q : State → Prop}
variable {cc : ByteArray} {pc nL : Nat} {ls : Array Slot} {rest : List Value} {K : gK} {G0 : gG} {A : Nat → Nat} {V : tV}
/-- the reference's field k read, written; its array k read, written -/
theorem t_get (M : gM K p s m args c cc nL RX2) (hA : tInj A) (hR : gR K (tG K G0 A V) H) {index : Nat} (k : Nat) (hk : k < 16) {v : Value} (hlink : (Cond.fieldLink RX2 index RX2 (TX2 k).2.1 (TX2 k).2.2.1) ∈ lw_all) (hT : (TX2 k).1 = RX2) (hv : (tF A V.1)[k]? = some v) (hdg : decode cc pc = .ok (.getfield index, 3))
    (kk : W p l e R s m args below meth c H locs cells slots Q (F0 m (pc + 3) ls (v :: rest))) : W p l e R s m args below meth c H locs cells slots Q (F0 m pc ls (.ref (A 0) :: rest)) :=
  g_get (C := RX2) (T := TX2) (N := 16) M hR (tG_0 hA) rfl in_X2 k hk hlink (fun x h => by rw [hT] at h; exact h) hv hdg kk
theorem t_put (M : gM K p s m args c cc nL RX2) (hA : tInj A) (hR : gR K (tG K G0 A V) H) (hS : va_S (gA K) s.heap H locs) {index : Nat} (k : Nat) (hk : k ∈ tSc) {x : Int32} (hlink : (Cond.fieldLink RX2 index RX2 (TX2 k).2.1 (TX2 k).2.2.1) ∈ lw_all) (hT : (TX2 k).1 = RX2 ∧ (TX2 k).2.2.2 = false) (hn : narrow (tyX2 k) (.int x) = .int x) (hf : fits (tyX2 k) (.int x) = true) (hdg : decode cc pc = .ok (.putfield index, 3))
    (kk : ∀ (H1 : Heap) (locs1 : List Loc), gR K (tG K G0 A (upd V.1 k x, V.2)) H1 → va_S (gA K) s.heap H1 locs1 → W p l e R s m args below meth c H1 locs1 cells slots Q (F0 m (pc + 3) ls rest)) : W p l e R s m args below meth c H locs cells slots Q (F0 m pc ls (.int x :: .ref (A 0) :: rest)) := by
  have hk16 : k < 16 := by
    unfold tSc at hk
    simp only [List.mem_cons, List.not_mem_nil, or_false] at hk
    omega
  refine g_put (C := RX2) (T := TX2) (N := 16) M hR hS (tG_0 hA) rfl in_X2 tyX2 tyX2_ok nmX2 k hk16 hlink (fun x h => by rw [hT.1] at h; exact h) hT.2 hn hf (by show k < (tF A V.1).length; exact hk16) hdg (fun H1 locs1 r1 r2 => kk H1 locs1 ?_ r2)
  rw [tG_set hA hk] at r1
  exact r1
theorem t_ald (M : gM K p s m args c cc nL RX2) (hA : tInj A) (hR : gR K (tG K G0 A V) H) (k : Nat) (hk : k ∈ tArr) {i : Int32} (j : Nat) (hi : i = nI j) (hj : j < tLen k) (hdg : decode cc pc = .ok (.iaload, 1))
    (kk : W p l e R s m args below meth c H locs cells slots Q (F0 m (pc + 1) ls (.int (V.2.1 k j) :: rest))) : W p l e R s m args below meth c H locs cells slots Q (F0 m pc ls (.int i :: .ref (A k) :: rest)) := by
  have hlt : tLen k < 2 ^ 31 := by
    unfold tArr at hk
    simp only [List.mem_cons, List.not_mem_nil, or_false] at hk
    rcases hk with h | h | h | h | h | h | h <;> subst h <;> decide
  exact g_ild M hR (tG_a hA k hk) j hi hj hlt hdg kk
theorem t_ast (M : gM K p s m args c cc nL RX2) (hA : tInj A) (hR : gR K (tG K G0 A V) H) (hS : va_S (gA K) s.heap H locs) (k : Nat) (hk : k ∈ tArr) {i x : Int32} (j : Nat) (hi : i = nI j) (hj : j < tLen k) (hdg : decode cc pc = .ok (.iastore, 1))
    (kk : ∀ (H1 : Heap) (locs1 : List Loc), gR K (tG K G0 A (V.1, va_up V.2.1 k (upd (V.2.1 k) j x), V.2.2)) H1 → va_S (gA K) s.heap H1 locs1 → W p l e R s m args below meth c H1 locs1 cells slots Q (F0 m (pc + 1) ls rest)) : W p l e R s m args below meth c H locs cells slots Q (F0 m pc ls (.int x :: .int i :: .ref (A k) :: rest)) := by
  have hlt : tLen k < 2 ^ 31 := by
    unfold tArr at hk
    simp only [List.mem_cons, List.not_mem_nil, or_false] at hk
    rcases hk with h | h | h | h | h | h | h <;> subst h <;> decide
  refine g_ist M hR hS (tG_a hA k hk) j hi hj hlt hdg (fun H1 locs1 r1 r2 => kk H1 locs1 ?_ r2)
  rw [tG_ar hA hk] at r1
  exact r1
end TRow
