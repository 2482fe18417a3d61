/-! LISTS: numbers; Object.equals of two of ours -/
theorem sub_nI {a b : Nat} (h : b ≤ a) : nI a - nI b = nI (a - b) := by
  have e : nI a = nI (a - b) + nI b := by rw [nI_add]; congr 1; omega
  rw [e, Int32.add_sub_cancel]
theorem sub_1 {a : Nat} (h : 0 < a) : nI a - 1 = nI (a - 1) := sub_nI (b := 1) h
theorem shr_1 : ∀ n, n < 1001 → nI n >>> ((1 : Int32) &&& 31) = nI (n / 2) := by decide +kernel
theorem g_m {K : gK} {G : gG} {H : Heap} {a arr n cap n' : Nat} {mo mo' : Int32} {f : Nat → Option Nat} (hR : gR K (oU (gOL K G a mo arr n cap f) a (.inl (.inr (8, [.int mo', .ref arr, .int (nI n')])))) H) : gR K (gOL K G a mo' arr n' cap f) H := by
  rw [gOL_m] at hR
  exact hR
theorem al_push {xs : List Nat} {cap cap2 v : Nat} {f f2 : Nat → Option Nat} (h : alOk xs cap f) (h1 : xs.length < cap2) (h2 : cap2 ≤ 1000) (h3 : ∀ i, i < xs.length → f2 i = f i) : alOk (xs ++ [v]) cap2 (va_up f2 xs.length (some v)) := by
  refine ⟨by simp; omega, h2, fun i hi => ?_⟩
  unfold va_up
  by_cases e : i = xs.length
  · subst e
    rw [if_pos rfl]
    simp
  · rw [if_neg e]
    have hi2 : i < xs.length := by simp at hi; omega
    rw [h3 i hi2, h.2.2 i hi2, List.getElem_append_left hi2]
theorem er_len {xs : List Nat} {j : Nat} (h : j < xs.length) : xs.length - 1 = (xs.eraseIdx j).length := by
  rw [List.length_eraseIdx, if_pos h]
theorem al_pull {xs : List Nat} {cap j : Nat} {f : Nat → Option Nat} (h : alOk xs cap f) (hj : j < xs.length) : alOk (xs.eraseIdx j) cap (va_up (va_cpy f f (j + 1) j (xs.length - 1 - j)) (xs.length - 1) none) := by
  have hl := er_len hj
  refine ⟨by have := h.1; omega, h.2.1, fun i hi => ?_⟩
  have hi2 : i < xs.length - 1 := by omega
  unfold va_up va_cpy
  rw [if_neg (by omega), List.getElem_eraseIdx]
  by_cases c : i < j
  · rw [if_neg (fun z => by omega), dif_pos c]
    exact h.2.2 i (by omega)
  · rw [if_pos ⟨by omega, by omega⟩, dif_neg c]
    rw [show j + 1 + (i - j) = i + 1 by omega]
    exact h.2.2 (i + 1) (by omega)
theorem al_pull0 {xs : List Nat} {cap j : Nat} {f : Nat → Option Nat} (h : alOk xs cap f) (hj : j < xs.length) (hj1 : xs.length - 1 ≤ j) : alOk (xs.eraseIdx j) cap (va_up f (xs.length - 1) none) := by
  have hl := er_len hj
  refine ⟨by have := h.1; omega, h.2.1, fun i hi => ?_⟩
  unfold va_up
  rw [if_neg (by omega), List.getElem_eraseIdx, dif_pos (by omega)]
  exact h.2.2 i (by omega)
theorem al_el {G : gG} {xs : List Nat} {cap : Nat} {f : Nat → Option Nat} (h : alOk xs cap f) (hel : ∀ x ∈ xs, gOb G x) {i y : Nat} (hi : i < xs.length) (hy : f i = some y) : gOb G y := by
  rw [h.2.2 i hi] at hy
  cases hy
  exact hel _ (List.getElem_mem hi)
section GEq
variable {p : Program} {l : Launch} {e : Env} {R : Room} {s : State} {m : MethodId} {args : Array Value} {below : List Frame} {meth : Method} {c : Code} {H : Heap} {locs : List Loc} {cells slots : Nat} {Q : State → Prop}
variable {cc : ByteArray} {pc nL : Nat} {ls : Array Slot} {rest : List Value} {K : gK} {G : gG} {a : Nat}
/-- Object.equals, asked by a list of an order -/
theorem g_eq (M : gM K p s m args c cc nL RJ2) (hR : gR K G H) (hS : va_S (gA K) s.heap H locs) {v y ci : Nat} {fs : List Value} (hv : G v = some (.inl (.inr (ci, fs)))) (h34 : ci = 3 ∨ ci = 4) (hsz : ls.size = nL) (hdg : decode cc pc = .ok (.invokevirtual 93, 3)) (hfr : 1 ≤ R.frames) (hlo : 21 ≤ R.locals) (hf : cells ≤ R.cells ∧ slots ≤ R.slots) (hW : (rest.map fun v => v.category).sum ≤ 8)
    (kk : ∀ (H1 : Heap) (locs1 : List Loc), gR K G H1 → va_S (gA K) s.heap H1 locs1 → W p l e R s m args below meth c H1 locs1 cells slots Q (F0 m (pc + 3) ls (.int (bI (decide (v = y))) :: rest))) : W p l e R s m args below meth c H locs cells slots Q (F0 m pc ls (.ref y :: .ref v :: rest)) := by
  have hd : ("java/lang/Object" : String) ≠ "java/lang/invoke/MethodHandle" ∧ ("java/lang/Object" : String) ≠ "java/lang/invoke/VarHandle" ∧ (parseMethodDescriptor yJ15_equals.desc).map (fun d => d.parameters.length) = some 1 := ⟨by decide, by decide, md_J15_equals.2.2⟩
  rcases h34 with h | h
  · subst h
    refine g_ki (g_U (As := [_]) (C := RX3) (owner := "java/lang/Object") (x := yJ15_equals) M hR hS (c_J15_equals l K v y) 1 (va_cwU 1 M.hts (lw_U q517 q519 q522 q518 q1383 q529) rfl rfl rfl rfl hd ⟨hfr, hlo⟩) (hR.recv M hv rfl) rfl hsz rfl (lv_room hW) hdg hf) hS (fun r G1 H1 locs1 hp hR hS => ?_)
    obtain ⟨rfl, e1⟩ := hp
    rw [e1] at hR
    exact kk H1 locs1 hR hS
  · subst h
    refine g_ki (g_U (As := [_]) (C := RX4) (owner := "java/lang/Object") (x := yJ15_equals) M hR hS (c_J15_equals l K v y) 1 (va_cwU 1 M.hts (lw_U q517 q519 q521 q518 q1383 q529) rfl rfl rfl rfl hd ⟨hfr, hlo⟩) (hR.recv M hv rfl) rfl hsz rfl (lv_room hW) hdg hf) hS (fun r G1 H1 locs1 hp hR hS => ?_)
    obtain ⟨rfl, e1⟩ := hp
    rw [e1] at hR
    exact kk H1 locs1 hR hS
end GEq
