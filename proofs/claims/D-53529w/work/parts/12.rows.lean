/-! ROWS over the ghost heap: arrays, new cells, copies -/
section GRow2
variable {p : Program} {l : Launch} {e : Env} {R : Room} {s : State} {m : MethodId} {args : Array Value} {below : List Frame} {meth : Method} {c : Code} {H : Heap} {locs : List Loc} {cells slots : Nat} {Q : State → Prop}
variable {cc : ByteArray} {pc nL : Nat} {ls : Array Slot} {rest : List Value} {K : gK} {G : gG} {own : String} {a : Nat}
theorem g_ild (M : gM K p s m args c cc nL own) (hR : gR K G H) {n : Nat} {f : Nat → Int32} (he : G a = some (.inl (.inl (kC K 0, (n, .inl f))))) {i : Int32} (j : Nat) (hi : i = nI j) (hj : j < n) (hn : n < 2 ^ 31) (hdg : decode cc pc = .ok (.iaload, 1))
    (kk : W p l e R s m args below meth c H locs cells slots Q (F0 m (pc + 1) ls (.int (f j) :: rest))) : W p l e R s m args below meth c H locs cells slots Q (F0 m pc ls (.int i :: .ref a :: rest)) := by
  subst hi
  refine va_iald M.hx M.hb M.hK (hR.one he) 0 0 rfl rfl (vp_in_nI hj hn) hdg ?_
  rw [nI_clamp (by omega)]
  exact kk
theorem g_zld (M : gM K p s m args c cc nL own) (hR : gR K G H) {n : Nat} {f : Nat → Int32} (he : G a = some (.inl (.inl (kC K 1, (n, .inl f))))) {i : Int32} (j : Nat) (hi : i = nI j) (hj : j < n) (hn : n < 2 ^ 31) (hdg : decode cc pc = .ok (.baload, 1))
    (kk : W p l e R s m args below meth c H locs cells slots Q (F0 m (pc + 1) ls (.int (f j) :: rest))) : W p l e R s m args below meth c H locs cells slots Q (F0 m pc ls (.int i :: .ref a :: rest)) := by
  subst hi
  refine va_zald M.hx M.hb M.hK (hR.one he) 0 1 rfl rfl (vp_in_nI hj hn) hdg ?_
  rw [nI_clamp (by omega)]
  exact kk
theorem g_fld (M : gM K p s m args c cc nL own) (hR : gR K G H) {n : Nat} {f : Nat → UInt32} (he : G a = some (.inl (.inl (kC K 2, (n, .inr (.inr (.inl f))))))) {i : Int32} (j : Nat) (hi : i = nI j) (hj : j < n) (hn : n < 2 ^ 31) (hdg : decode cc pc = .ok (.faload, 1))
    (kk : W p l e R s m args below meth c H locs cells slots Q (F0 m (pc + 1) ls (.float (f j) :: rest))) : W p l e R s m args below meth c H locs cells slots Q (F0 m pc ls (.int i :: .ref a :: rest)) := by
  subst hi
  refine va_fald M.hx M.hb M.hK (hR.one he) 0 2 rfl rfl (vp_in_nI hj hn) hdg ?_
  rw [nI_clamp (by omega)]
  exact kk
theorem g_bld (M : gM K p s m args c cc nL own) (hR : gR K G H) {n : Nat} {f : Nat → Int32} (he : G a = some (.inl (.inl (kC K 3, (n, .inl f))))) {i : Int32} (j : Nat) (hi : i = nI j) (hj : j < n) (hn : n < 2 ^ 31) (hdg : decode cc pc = .ok (.baload, 1))
    (kk : W p l e R s m args below meth c H locs cells slots Q (F0 m (pc + 1) ls (.int (f j) :: rest))) : W p l e R s m args below meth c H locs cells slots Q (F0 m pc ls (.int i :: .ref a :: rest)) := by
  subst hi
  refine va_bald M.hx M.hb M.hK (hR.one he) 0 3 rfl rfl (vp_in_nI hj hn) hdg ?_
  rw [nI_clamp (by omega)]
  exact kk
theorem g_qld (M : gM K p s m args c cc nL own) (hR : gR K G H) {n : Nat} {f : Nat → Option Nat} (he : G a = some (.inl (alA K n f))) {i : Int32} (j : Nat) (hi : i = nI j) (hj : j < n) (hn : n < 2 ^ 31) {v : Value} (hv : va_rf (f j) = v) (hdg : decode cc pc = .ok (.aaload, 1))
    (kk : W p l e R s m args below meth c H locs cells slots Q (F0 m (pc + 1) ls (v :: rest))) : W p l e R s m args below meth c H locs cells slots Q (F0 m pc ls (.int i :: .ref a :: rest)) := by
  subst hi
  refine va_aldq M.hx M.hb M.hK (hR.one he) 0 4 rfl rfl (vp_in_nI hj hn) hdg ?_
  rw [nI_clamp (by omega), hv]
  exact kk
theorem g_ist (M : gM K p s m args c cc nL own) (hR : gR K G H) (hS : va_S (gA K) s.heap H locs) {n : Nat} {f : Nat → Int32} (he : G a = some (.inl (.inl (kC K 0, (n, .inl f))))) {i x : Int32} (j : Nat) (hi : i = nI j) (hj : j < n) (hn : n < 2 ^ 31) (hdg : decode cc pc = .ok (.iastore, 1))
    (kk : ∀ (H1 : Heap) (locs1 : List Loc), gR K (oU G a (.inl (.inl (kC K 0, (n, .inl (upd f j x)))))) H1 → va_S (gA K) s.heap H1 locs1 → W p l e R s m args below meth c H1 locs1 cells slots Q (F0 m (pc + 1) ls rest)) : W p l e R s m args below meth c H locs cells slots Q (F0 m pc ls (.int x :: .int i :: .ref a :: rest)) := by
  subst hi
  obtain ⟨ws, q, w1, w2, w3, -, w5⟩ := hR.write M hS he (hR.neA he (by omega))
  refine va_iast M.hx M.hb M.hK w1 w2 hS q 0 w3 rfl (vp_in_nI hj hn) hdg (fun H1 locs1 r1 _ r3 => ?_)
  rw [nI_clamp (by omega)] at r1
  exact kk H1 locs1 (w5 _ H1 locs1 r1 r3) r3
theorem g_zst (M : gM K p s m args c cc nL own) (hR : gR K G H) (hS : va_S (gA K) s.heap H locs) {n : Nat} {f : Nat → Int32} (he : G a = some (.inl (.inl (kC K 1, (n, .inl f))))) {i x : Int32} (j : Nat) (hi : i = nI j) (hj : j < n) (hn : n < 2 ^ 31) (hx : x = 0 ∨ x = 1) (hdg : decode cc pc = .ok (.bastore, 1))
    (kk : ∀ (H1 : Heap) (locs1 : List Loc), gR K (oU G a (.inl (.inl (kC K 1, (n, .inl (upd f j x)))))) H1 → va_S (gA K) s.heap H1 locs1 → W p l e R s m args below meth c H1 locs1 cells slots Q (F0 m (pc + 1) ls rest)) : W p l e R s m args below meth c H locs cells slots Q (F0 m pc ls (.int x :: .int i :: .ref a :: rest)) := by
  subst hi
  obtain ⟨ws, q, w1, w2, w3, -, w5⟩ := hR.write M hS he (hR.neA he (by omega))
  have hnar : vp_nar .boolean x = x := by rcases hx with h | h <;> subst h <;> decide
  refine va_zast M.hx M.hb M.hK w1 w2 hS q 1 w3 rfl (vp_in_nI hj hn) hdg (fun H1 locs1 r1 _ r3 => ?_)
  rw [nI_clamp (by omega), hnar] at r1
  exact kk H1 locs1 (w5 _ H1 locs1 r1 r3) r3
theorem g_fst (M : gM K p s m args c cc nL own) (hR : gR K G H) (hS : va_S (gA K) s.heap H locs) {n : Nat} {f : Nat → UInt32} (he : G a = some (.inl (.inl (kC K 2, (n, .inr (.inr (.inl f))))))) {i : Int32} {x : UInt32} (j : Nat) (hi : i = nI j) (hj : j < n) (hn : n < 2 ^ 31) (hdg : decode cc pc = .ok (.fastore, 1))
    (kk : ∀ (H1 : Heap) (locs1 : List Loc), gR K (oU G a (.inl (.inl (kC K 2, (n, .inr (.inr (.inl (vf_upd f j x)))))))) H1 → va_S (gA K) s.heap H1 locs1 → W p l e R s m args below meth c H1 locs1 cells slots Q (F0 m (pc + 1) ls rest)) : W p l e R s m args below meth c H locs cells slots Q (F0 m pc ls (.float x :: .int i :: .ref a :: rest)) := by
  subst hi
  obtain ⟨ws, q, w1, w2, w3, -, w5⟩ := hR.write M hS he (hR.neA he (by omega))
  refine va_fast M.hx M.hb M.hK w1 w2 hS q 2 w3 rfl (vp_in_nI hj hn) hdg (fun H1 locs1 r1 _ r3 => ?_)
  rw [nI_clamp (by omega)] at r1
  exact kk H1 locs1 (w5 _ H1 locs1 r1 r3) r3
theorem g_bst (M : gM K p s m args c cc nL own) (hR : gR K G H) (hS : va_S (gA K) s.heap H locs) {n : Nat} {f : Nat → Int32} (he : G a = some (.inl (.inl (kC K 3, (n, .inl f))))) {i x : Int32} (j : Nat) (hi : i = nI j) (hj : j < n) (hn : n < 2 ^ 31) (hdg : decode cc pc = .ok (.bastore, 1))
    (kk : ∀ (H1 : Heap) (locs1 : List Loc), gR K (oU G a (.inl (.inl (kC K 3, (n, .inl (upd f j x.toInt8.toInt32)))))) H1 → va_S (gA K) s.heap H1 locs1 → W p l e R s m args below meth c H1 locs1 cells slots Q (F0 m (pc + 1) ls rest)) : W p l e R s m args below meth c H locs cells slots Q (F0 m pc ls (.int x :: .int i :: .ref a :: rest)) := by
  subst hi
  obtain ⟨ws, q, w1, w2, w3, -, w5⟩ := hR.write M hS he (hR.neA he (by omega))
  refine va_bast M.hx M.hb M.hK w1 w2 hS q 3 w3 rfl (vp_in_nI hj hn) hdg (fun H1 locs1 r1 _ r3 => ?_)
  rw [nI_clamp (by omega), vp_nar_byte] at r1
  exact kk H1 locs1 (w5 _ H1 locs1 r1 r3) r3
/-- null into an array of references -/
theorem g_qstN (M : gM K p s m args c cc nL own) (hR : gR K G H) (hS : va_S (gA K) s.heap H locs) {n : Nat} {f : Nat → Option Nat} (he : G a = some (.inl (alA K n f))) {i : Int32} (j : Nat) (hi : i = nI j) (hj : j < n) (hn : n < 2 ^ 31) (hdg : decode cc pc = .ok (.aastore, 1))
    (kk : ∀ (H1 : Heap) (locs1 : List Loc), gR K (oU G a (.inl (alA K n (va_up f j none)))) H1 → va_S (gA K) s.heap H1 locs1 → W p l e R s m args below meth c H1 locs1 cells slots Q (F0 m (pc + 1) ls rest)) : W p l e R s m args below meth c H locs cells slots Q (F0 m pc ls (.null :: .int i :: .ref a :: rest)) := by
  subst hi
  obtain ⟨ws, q, w1, w2, w3, -, w5⟩ := hR.write M hS he (hR.neA he (by omega))
  refine va_astqN M.hx M.hb M.hK w1 w2 hS q 4 w3 rfl (vp_in_nI hj hn) hdg (fun H1 locs1 r1 _ r3 => ?_)
  rw [nI_clamp (by omega)] at r1
  exact kk H1 locs1 (w5 _ H1 locs1 r1 r3) r3
/-- an object's address: its class is one of ours -/
def gOb (G : gG) (v : Nat) : Prop := (∃ (ci : Nat) (fs : List Value), ci < 10 ∧ ci ≠ 6 ∧ G v = some (.inl (.inr (ci, fs)))) ∨ ∃ x, G v = some (.inr x)
theorem gOb.upd {G : gG} {v b : Nat} {x : gE} (h : gOb G v) (hx : v ≠ b) : gOb (oU G b x) v := by
  rcases h with ⟨ci, fs, h1, h3, h2⟩ | ⟨y, h2⟩
  · exact Or.inl ⟨ci, fs, h1, h3, by rw [oU_n hx]; exact h2⟩
  · exact Or.inr ⟨y, by rw [oU_n hx]; exact h2⟩
theorem g_cast (M : gM K p s m args c cc nL own) {ci : Nat} (h : ci < 10) (h6 : ci ≠ 6) {r : vw_C} (hc : gCl[ci]? = some r) : va_Nw (.castable r.1 "java/lang/Object") s := by
  match ci, h with
  | 0, _ => cases hc; exact M.nw q1385 rfl
  | 1, _ => cases hc; exact M.nw q1386 rfl
  | 2, _ => cases hc; exact M.nw q1389 rfl
  | 3, _ => cases hc; exact M.nw q1390 rfl
  | 4, _ => cases hc; exact M.nw q1391 rfl
  | 5, _ => cases hc; exact M.nw q1392 rfl
  | 6, _ => exact absurd rfl h6
  | 7, _ => cases hc; exact M.nw q1394 rfl
  | 8, _ => cases hc; exact M.nw q1387 rfl
  | 9, _ => cases hc; exact M.nw q1388 rfl
theorem gOb.raw (h : gOb G a) {Rw : Nat → Option va_E} (hL : gLf K G Rw) : ∃ (ci : Nat) (fs : List Value), ci < 10 ∧ ci ≠ 6 ∧ Rw a = some (.inr (ci, fs)) := by
  rcases h with ⟨ci, fs, h1, h3, h2⟩ | ⟨x, h2⟩
  · exact ⟨ci, fs, h1, h3, hL.raw h2⟩
  · obtain ⟨ar, q1, q2, q3, -⟩ := hL
    match x, h2 with
    | .inl xs, h2 =>
      obtain ⟨mo, cap, f, r1, -⟩ := q2 a xs h2
      exact ⟨8, _, by decide, by decide, r1⟩
    | .inr cs, h2 =>
      obtain ⟨co, ml, cap, f, r1, -⟩ := q3 a cs h2
      exact ⟨9, _, by decide, by decide, r1⟩
theorem g_clAt {ci : Nat} (h : ci < 10) : ∃ r : vw_C, gCl[ci]? = some r := by
  have hl : gCl.length = 10 := rfl
  exact ⟨gCl[ci]'(by omega), List.getElem?_eq_getElem (by omega)⟩
/-- a reference into an array of references -/
theorem g_qst (M : gM K p s m args c cc nL own) (hR : gR K G H) (hS : va_S (gA K) s.heap H locs) {n v : Nat} {f : Nat → Option Nat} (he : G a = some (.inl (alA K n f))) (hv : gOb G v) {i : Int32} (j : Nat) (hi : i = nI j) (hj : j < n) (hn : n < 2 ^ 31) (hdg : decode cc pc = .ok (.aastore, 1))
    (kk : ∀ (H1 : Heap) (locs1 : List Loc), gR K (oU G a (.inl (alA K n (va_up f j (some v))))) H1 → va_S (gA K) s.heap H1 locs1 → W p l e R s m args below meth c H1 locs1 cells slots Q (F0 m (pc + 1) ls rest)) : W p l e R s m args below meth c H locs cells slots Q (F0 m pc ls (.ref v :: .int i :: .ref a :: rest)) := by
  subst hi
  have hE := hR.neA he (by omega)
  obtain ⟨Rw, h1, h2⟩ := hR
  obtain ⟨ws, w1, w2, w3, w4⟩ := h1.list (k0 K)
  have hlow : ∀ (b : Nat) (y : va_E), Rw b = some y → b ≠ kE K → k0 K ≤ b := by
    intro b y hb hne
    obtain ⟨ar, q1, q2, q3, q4, q5, q6, q7, q8⟩ := h2
    rcases q8 b y hb with q | q
    · exact absurd q hne
    · exact q
  obtain ⟨q, hq⟩ := w3 a _ (h2.raw he) (hlow a _ (h2.raw he) hE)
  obtain ⟨ci, fs, c1, c3, c2⟩ := hv.raw h2
  have hvE : v ≠ kE K := fun z => by
    obtain ⟨ar, q1, q2, q3, q4, q5, q6, q7, q8⟩ := h2
    have := q1 _ _ q6
    rw [z, this] at c2
    unfold alA at c2
    cases c2
  obtain ⟨k, hk⟩ := w3 v _ c2 (hlow v _ c2 hvE)
  obtain ⟨r, hr⟩ := g_clAt c1
  refine va_astqO M.hx M.hb M.hK w1 w2 hS q 4 k ci hq rfl (g_cast M c1 c3 hr) hk hr (vp_in_nI hj hn) hdg (fun H1 locs1 r1 _ r3 => ?_)
  rw [nI_clamp (by omega)] at r1
  exact kk H1 locs1 ⟨oU Rw a (alA K n (va_up f j (some v))), h1.setL hS r3 M.hz w3 w4 hq r1, h2.upd he hE⟩ r3
/-- arraylength -/
theorem g_alen (M : gM K p s m args c cc nL own) (hR : gR K G H) {cA : ClassId} {x : vp_A} (he : G a = some (.inl (.inl (cA, x)))) (t0 : Nat) {ty : FieldType} (ht : (gTys K)[t0]? = some (cA, ty)) (hdg : decode cc pc = .ok (.arraylength, 1))
    (kk : W p l e R s m args below meth c H locs cells slots Q (F0 m (pc + 1) ls (.int (nI x.1) :: rest))) : W p l e R s m args below meth c H locs cells slots Q (F0 m pc ls (.ref a :: rest)) :=
  va_alen M.hx M.hb M.hK (hR.one he) 0 t0 rfl ht rfl hdg kk
/-- new -/
theorem g_new (M : gM K p s m args c cc nL own) (hR : gR K G H) (hS : va_S (gA K) s.heap H locs) {C : String} {T : u_T} {N ci index : Nat} (hin : ∀ w ∈ u_ws C T N, w ∈ lw_all) (ty : Nat → FieldType) (hty : ∀ k, k < N → parseFieldDescriptor (T k).2.2.1 = some (ty k)) (hcl : (Cond.classLink own index C) ∈ lw_all) (hinst : (Cond.instantiable C N) ∈ lw_all) (hini : (Cond.initialized C) ∈ lw_all)
    (hc : gCl[ci]? = some (C, T, N)) {fs : List Value} (hfs : ∀ j, j < N → defaultValue (ty j) = vp_V fs j) (hcells : cells + 1 ≤ R.cells) (hslots : slots + N ≤ R.slots) (hdg : decode cc pc = .ok (.new index, 3))
    (kk : ∀ (q : Nat) (H1 : Heap), G q = none → gR K (oU G q (.inl (.inr (ci, fs)))) H1 → va_S (gA K) s.heap H1 locs → W p l e R s m args below meth c H1 locs (cells + 1) (slots + N) Q (F0 m (pc + 3) ls (.ref q :: rest))) : W p l e R s m args below meth c H locs cells slots Q (F0 m pc ls rest) := by
  obtain ⟨ws, w1, w2, w3⟩ := hR.make M hS
  refine va_new (C := C) (T := T) (N := N) (ci := ci) (fs := fs) M.hx M.hb M.hts hin ty hty M.hown (M.hts _ hcl) (M.hts _ hinst) (M.hts _ hini) M.hK w1 w2 hS (fun q h => gA_ge M.hz h) hc hfs hcells hslots hdg (fun q H1 r1 r2 r3 => ?_)
  obtain ⟨n1, n2⟩ := w3 q _ H1 locs r1 r2 r3
  exact kk q H1 n2 n1 r3
theorem g_cA {U : State} (hK : va_K (kD K) gCl (gTys K) U) {t0 : Nat} {cA cB : ClassId} {ty : FieldType} (ht : (gTys K)[t0]? = some (cA, ty)) (h : va_RA U cB ty) (hnm : ∀ C, ty = .object C → C = "java/lang/Object") : cB = cA := by
  have h1 := (hK.2 t0 _ ht).2
  cases ty with
  | object C =>
    obtain ⟨kA, comp, -, -, -, z1⟩ := h1
    obtain ⟨kA2, comp2, -, -, -, z2⟩ := h
    exact Option.some.inj (z2.symm.trans z1)
  | _ => exact Option.some.inj (Eq.trans (Eq.symm h) h1)
/-- new int[], boolean[], float[], byte[] -/
theorem g_newa (M : gM K p s m args c cc nL own) (hR : gR K G H) (hS : va_S (gA K) s.heap H locs) {atype : ArrayType} {ty : FieldType} (hty : newarray.typeOf atype = ty) (t0 : Nat) {cA : ClassId} (ht : (gTys K)[t0]? = some (cA, ty)) (hno : ∀ C, ty = .object C → C = "java/lang/Object") (harr : (Cond.arrayClass ty) ∈ lw_all)
    {n : Int32} (N' : Nat) {a0 : vp_A} (ha : ∀ cB : ClassId, vp_cell cB a0 = arrV cB N' (fun _ => defaultValue ty)) (hn : n = nI N') (hN : N' < 2 ^ 20) (hb : componentBytes ty ≤ 8) (hcells : cells + 1 ≤ R.cells) (hslots : slots + N' ≤ R.slots) (hdg : decode cc pc = .ok (.newarray atype, 2))
    (kk : ∀ (q : Nat) (H1 : Heap), G q = none → gR K (oU G q (.inl (.inl (cA, a0)))) H1 → va_S (gA K) s.heap H1 locs → W p l e R s m args below meth c H1 locs (cells + 1) (slots + N') Q (F0 m (pc + 2) ls (.ref q :: rest))) : W p l e R s m args below meth c H locs cells slots Q (F0 m pc ls (.int n :: rest)) := by
  subst hn
  obtain ⟨ws, w1, w2, w3⟩ := hR.make M hS
  have hbytes : N' * componentBytes ty ≤ 536870912 := Nat.le_trans (Nat.mul_le_mul (Nat.le_of_lt hN) hb) (by decide)
  refine va_newa (N' := N') (a0 := a0) M.hx M.hb (by rw [hty]; exact M.hts _ harr) hty M.hK w1 w2 hS (fun q h => gA_ge M.hz h) ha (nI_pos (by omega)) (nI_clamp (by omega)) hbytes hcells hslots hdg (fun q cB H1 r0 r1 r2 r3 => ?_)
  have hc : cB = cA := by
    refine g_cA M.hK ht (r0.2 (gTys K).length (cB, ty) ?_).2 hno
    rw [List.getElem?_append_right (Nat.le_refl _), Nat.sub_self]
    rfl
  subst hc
  obtain ⟨n1, n2⟩ := w3 q _ H1 locs r1 r2 r3
  exact kk q H1 n2 n1 r3
/-- new Object[] -/
theorem g_newq (M : gM K p s m args c cc nL own) (hR : gR K G H) (hS : va_S (gA K) s.heap H locs) {index : Nat} (hcl : (Cond.classLink own index "java/lang/Object") ∈ lw_all) {n : Int32} (N' : Nat) (hn : n = nI N') (hN : N' < 2 ^ 20) (hcells : cells + 1 ≤ R.cells) (hslots : slots + N' ≤ R.slots) (hdg : decode cc pc = .ok (.anewarray index, 3))
    (kk : ∀ (q : Nat) (H1 : Heap), G q = none → gR K (oU G q (.inl (alA K N' (fun _ => none)))) H1 → va_S (gA K) s.heap H1 locs → W p l e R s m args below meth c H1 locs (cells + 1) (slots + N') Q (F0 m (pc + 3) ls (.ref q :: rest))) : W p l e R s m args below meth c H locs cells slots Q (F0 m pc ls (.int n :: rest)) := by
  subst hn
  obtain ⟨ws, w1, w2, w3⟩ := hR.make M hS
  refine va_newq (C := "java/lang/Object") (N' := N') M.hx M.hb M.hown (M.hts _ hcl) M.2.2.2.2.2.2.2.2.2.2.1 M.hK w1 w2 hS (fun q h => gA_ge M.hz h) (nI_pos (by omega)) (nI_clamp (by omega)) (by omega) hcells hslots hdg (fun q cB H1 r0 r1 r2 r3 => ?_)
  have hc : cB = kC K 4 := by
    refine g_cA (t0 := 4) M.hK rfl (r0.2 (gTys K).length (cB, .object "java/lang/Object") ?_).2 (fun C h => by cases h; rfl)
    rw [List.getElem?_append_right (Nat.le_refl _), Nat.sub_self]
    rfl
  subst hc
  obtain ⟨n1, n2⟩ := w3 q _ H1 locs r1 r2 r3
  exact kk q H1 n2 n1 r3
/-- System.arraycopy of ints, bytes .. (one type) -/
theorem g_cpi (M : gM K p s m args c cc nL own) (hR : gR K G H) (hS : va_S (gA K) s.heap H locs) (hsz : ls.size = nL) {index : Nat} (hlink : (Cond.methodLink own index arraycopyName) ∈ lw_all) (hnat : (Cond.native arraycopyName) ∈ lw_all) (hstat : (Cond.static arraycopyName) ∈ lw_all) (hini : (Cond.initialized "java/lang/System") ∈ lw_all)
    (t0 : Nat) {a0 : Nat} {cA : ClassId} {n0 n1 : Nat} {f g : Nat → Int32} {ty : FieldType} (ht : (gTys K)[t0]? = some (cA, ty)) (hprim : refKind ty = false) (he0 : G a0 = some (.inl (.inl (cA, (n0, .inl f))))) (he1 : G a = some (.inl (.inl (cA, (n1, .inl g)))))
    {sp dp n : Int32} (sp' dp' n' : Nat) (h1 : sp = nI sp') (h2 : dp = nI dp') (h3 : n = nI n') (h4 : sp' + n' ≤ n0) (h5 : dp' + n' ≤ n1) (hn0 : n0 < 2 ^ 31) (hn1 : n1 < 2 ^ 31) (hp0 : 0 < n0) (hp1 : 0 < n1) (hfit : ∀ i, i < n' → fits ty (.int (f (sp' + i))) = true)
    (hframes : 1 ≤ R.frames) (hlocals : (rest.map fun v => v.category).sum + (nativeFrameWords "java/lang/System" "arraycopy" 5 + 11) ≤ R.locals) (hdg : decode cc pc = .ok (.invokestatic index, 3))
    (kk : ∀ (H1 : Heap) (locs1 : List Loc), gR K (oU G a (.inl (.inl (cA, (n1, .inl (va_cpy f g sp' dp' n')))))) H1 → va_S (gA K) s.heap H1 locs1 → W p l e R s m args below meth c H1 locs1 cells slots Q (F0 m (pc + 3) ls rest)) : W p l e R s m args below meth c H locs cells slots Q (F0 m pc ls (.int n :: .int dp :: .ref a :: .int sp :: .ref a0 :: rest)) := by
  subst h1; subst h2; subst h3
  obtain ⟨ws, q, w1, w2, w3, w4, w5⟩ := hR.write M hS he1 (hR.neA he1 hp1)
  obtain ⟨q0, hq0⟩ := w4 a0 _ he0 (hR.neA he0 hp0)
  have e1 : (nI sp').toNatClampNeg = sp' := nI_clamp (by omega)
  have e2 : (nI dp').toNatClampNeg = dp' := nI_clamp (by omega)
  have e3 : (nI n').toNatClampNeg = n' := nI_clamp (by omega)
  refine va_copyi M.hx M.hb (M.1.2.2.1.trans hsz.symm) M.hown (M.hts _ hlink) (M.hts _ hnat) (M.hts _ hstat) (M.hts _ hini) M.hK w1 w2 hS q0 q t0 t0 hq0 w3 ht ht hprim (nI_pos (by omega)) (nI_pos (by omega)) (nI_pos (by omega)) (by rw [e1, e3]; exact h4) (by rw [e2, e3]; exact h5) (by rw [e1, e3]; exact hfit) hframes hlocals hdg (fun H1 locs1 r1 _ r3 => ?_)
  rw [e1, e2, e3] at r1
  exact kk H1 locs1 (w5 _ H1 locs1 r1 r3) r3
theorem gOb.any (M : gM K p s m args c cc nL own) (hR : gR K G H) {v : Nat} (h : gOb G v) : va_Any "java/lang/Object" s H v := by
  obtain ⟨Rw, h1, h2⟩ := hR
  obtain ⟨ci, fs, c1, c3, c2⟩ := h.raw h2
  obtain ⟨r, hr⟩ := g_clAt c1
  exact va_rAny (q0 := 0) M.hK (h1.one c2) rfl hr (vb_asgC (g_cast M c1 c3 hr))
/-- System.arraycopy of references -/
theorem g_cpq (M : gM K p s m args c cc nL own) (hR : gR K G H) (hS : va_S (gA K) s.heap H locs) (hsz : ls.size = nL) {index : Nat} (hlink : (Cond.methodLink own index arraycopyName) ∈ lw_all) (hnat : (Cond.native arraycopyName) ∈ lw_all) (hstat : (Cond.static arraycopyName) ∈ lw_all) (hini : (Cond.initialized "java/lang/System") ∈ lw_all)
    {a0 : Nat} {n0 n1 : Nat} {f g : Nat → Option Nat} (he0 : G a0 = some (.inl (alA K n0 f))) (he1 : G a = some (.inl (alA K n1 g)))
    {sp dp n : Int32} (sp' dp' n' : Nat) (h1 : sp = nI sp') (h2 : dp = nI dp') (h3 : n = nI n') (h4 : sp' + n' ≤ n0) (h5 : dp' + n' ≤ n1) (hn0 : n0 < 2 ^ 31) (hn1 : n1 < 2 ^ 31) (hE0 : a0 ≠ kE K) (hE1 : a ≠ kE K) (hel : ∀ i, i < n' → ∀ y, f (sp' + i) = some y → gOb G y)
    (hframes : 1 ≤ R.frames) (hlocals : (rest.map fun v => v.category).sum + (nativeFrameWords "java/lang/System" "arraycopy" 5 + 11) ≤ R.locals) (hdg : decode cc pc = .ok (.invokestatic index, 3))
    (kk : ∀ (H1 : Heap) (locs1 : List Loc), gR K (oU G a (.inl (alA K n1 (va_cpy f g sp' dp' n')))) H1 → va_S (gA K) s.heap H1 locs1 → W p l e R s m args below meth c H1 locs1 cells slots Q (F0 m (pc + 3) ls rest)) : W p l e R s m args below meth c H locs cells slots Q (F0 m pc ls (.int n :: .int dp :: .ref a :: .int sp :: .ref a0 :: rest)) := by
  subst h1; subst h2; subst h3
  obtain ⟨ws, q, w1, w2, w3, w4, w5⟩ := hR.write M hS he1 hE1
  obtain ⟨q0, hq0⟩ := w4 a0 _ he0 hE0
  have e1 : (nI sp').toNatClampNeg = sp' := nI_clamp (by omega)
  have e2 : (nI dp').toNatClampNeg = dp' := nI_clamp (by omega)
  have e3 : (nI n').toNatClampNeg = n' := nI_clamp (by omega)
  refine va_copyM (E0 := "java/lang/Object") (E1 := "java/lang/Object") M.hx M.hb (M.1.2.2.1.trans hsz.symm) M.hown (M.hts _ hlink) (M.hts _ hnat) (M.hts _ hstat) (M.hts _ hini) M.hK w1 w2 hS q0 q 4 4 hq0 w3 rfl rfl (nI_pos (by omega)) (nI_pos (by omega)) (nI_pos (by omega)) (by rw [e1, e3]; exact h4) (by rw [e2, e3]; exact h5) (fun i hi y hy => (hel i (by rw [e3] at hi; exact hi) y (by rw [e1] at hy; exact hy)).any M hR) hframes hlocals hdg (fun H1 locs1 r1 _ r3 => ?_)
  rw [e1, e2, e3] at r1
  exact kk H1 locs1 (w5 _ H1 locs1 r1 r3) r3
end GRow2
