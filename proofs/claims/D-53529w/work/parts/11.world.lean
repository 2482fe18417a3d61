/-! THE RUN'S STANDING FACTS, a method's start and end over the ghost heap, the frame -/
def gMH (w : MethodName) : Prop := w.cls ≠ "java/lang/invoke/MethodHandle" ∧ w.cls ≠ "java/lang/invoke/VarHandle"
def gL (n d : String) : MethodName := ⟨"java/util/List", n, d⟩
def gAL (n d : String) : MethodName := ⟨"java/util/ArrayList", n, d⟩
def gCS (n d : String) : MethodName := ⟨"java/lang/CharSequence", n, d⟩
def gSB (n d : String) : MethodName := ⟨"java/lang/StringBuilder", n, d⟩
/-- the calls through an interface -/
def gFw : List (String × MethodName × MethodName) := [
  ("java/util/ArrayList", gL "add" "(Ljava/lang/Object;)Z", gAL "add" "(Ljava/lang/Object;)Z"),
  ("java/util/ArrayList", gL "size" "()I", gAL "size" "()I"),
  ("java/util/ArrayList", gL "get" "(I)Ljava/lang/Object;", gAL "get" "(I)Ljava/lang/Object;"),
  ("java/util/ArrayList", gL "remove" "(I)Ljava/lang/Object;", gAL "remove" "(I)Ljava/lang/Object;"),
  ("java/util/ArrayList", gL "remove" "(Ljava/lang/Object;)Z", gAL "remove" "(Ljava/lang/Object;)Z"),
  ("java/util/ArrayList", gL "indexOf" "(Ljava/lang/Object;)I", gAL "indexOf" "(Ljava/lang/Object;)I"),
  ("java/util/ArrayList", gL "isEmpty" "()Z", gAL "isEmpty" "()Z"),
  ("java/lang/StringBuilder", gCS "length" "()I", gSB "length" "()I"),
  ("java/lang/StringBuilder", gCS "charAt" "(I)C", gSB "charAt" "(I)C")]
def gNwK : Cond → Bool
  | .fieldLinkNest .. => true
  | .methodLinkNest .. => true
  | .declares _ => true
  | .castable _ _ => true
  | _ => false
/-- what stands all through a run, at a state U (of heap U.heap) -/
def gX (K : gK) (U : State) : Prop :=
  va_K (kD K) gCl (gTys K) U ∧
  va_Z "java/util/ArrayList" "DEFAULTCAPACITY_EMPTY_ELEMENTDATA" "[Ljava/lang/Object;" (.ref (kE K)) (gA K) U U.heap ∧
  va_Z "java/lang/String" "COMPACT_STRINGS" "Z" (.int 1) (gA K) U U.heap ∧
  va_Z "java/lang/StringUTF16" "$assertionsDisabled" "Z" (.int 1) (gA K) U U.heap ∧
  va_Z "java/lang/StringUTF16" "HI_BYTE_SHIFT" "I" (.int 0) (gA K) U U.heap ∧
  va_Z "java/lang/StringUTF16" "LO_BYTE_SHIFT" "I" (.int 8) (gA K) U U.heap ∧
  va_Zq "jdk/internal/util/Preconditions" "SIOOBE_FORMATTER" "Ljava/util/function/BiFunction;" (gA K) U U.heap ∧
  (∀ w ∈ lw_tbl, gNwK w = true → va_Nw w U) ∧
  (∀ q ∈ gFw, va_Fw q.1 q.2.1 q.2.2 U) ∧
  va_AO "java/lang/Object" U ∧ va_Mi "[Ljava/lang/Object;" (kM K) U ∧ k0 K ≤ U.heap.size
theorem gFw_MH : ∀ q ∈ gFw, gMH q.2.1 := by
  unfold gMH
  decide +kernel
theorem gNw_warm {w : Cond} (hk : gNwK w = true) {s U : State} (hW : s.WarmedH U.vm) (h : va_Nw w s) : va_Nw w U := by
  cases w <;> first | exact va_Nw.warmF hW h | exact va_Nw.warmM hW h | exact va_Nw.warmD hW h | exact va_Nw.warmC hW h | (exact absurd hk (by simp [gNwK]))
theorem gZ_moved {K : gK} {C n d : String} {v : Value} {s U : State} {H : Heap} {locs : List Loc} (h : va_Z C n d v (gA K) s s.heap) (hS : va_S (gA K) s.heap H locs) (hU : U.heap = H) (hW : s.WarmedH U.vm) : va_Z C n d v (gA K) U U.heap := by
  rw [hU]
  exact (h.kept (fun a h1 h2 => hS.2.1 a h1 h2)).moved hW.alike
theorem gX.moved {K : gK} {s U : State} {H : Heap} {locs : List Loc} (h : gX K s) (hS : va_S (gA K) s.heap H locs) (hU : U.heap = H) (hW : s.WarmedH U.vm) : gX K U := by
  obtain ⟨h1, h2, h3, h4, h5, h6, h7, h8, h9, h10, h11, h12⟩ := h
  refine ⟨h1.moved hW.alike, gZ_moved h2 hS hU hW, gZ_moved h3 hS hU hW, gZ_moved h4 hS hU hW, gZ_moved h5 hS hU hW, gZ_moved h6 hS hU hW, ?_, fun w hw hk => gNw_warm hk hW (h8 w hw hk), fun q hq => (h9 q hq).moved (gFw_MH q hq) hW.alike, h10.moved hW.alike, h11.moved hW.alike, by rw [hU]; exact Nat.le_trans h12 hS.1⟩
  rcases h7 with h7 | ⟨t, h7⟩
  · exact Or.inl (gZ_moved h7 hS hU hW)
  · exact Or.inr ⟨t, gZ_moved h7 hS hU hW⟩
/-- the ghost heap stands -/
def gR (K : gK) (G : gG) (H : Heap) : Prop := ∃ Rw : Nat → Option va_E, gP (kD K) Rw H ∧ gLf K G Rw
/-- a method's start: its arguments, the standing facts, the ghost heap -/
def gPre (K : gK) (av : List Value) (G : gG) : Array Value → State → Prop := va_Pc av (fun U => gX K U ∧ gR K G U.heap)
theorem gPre_blind {K : gK} {av : List Value} {G : gG} : FrameBlind (gPre K av G) := fun a U g mk h => ⟨h.1, h.2.1.moved (U := U.calling g mk a) va_S.rf rfl (State.WarmedH.refl U), h.2.2⟩
abbrev gB (K : gK) : gG → State → Prop := fun G t => gR K G t.heap
/-- a method's end: an answer, and the ghost heap behind it -/
abbrev gQi (K : gK) (post : Int32 → gG → Prop) : Array Value → State → Outcome → State → Prop := va_Qi post (gB K) (gA K)
abbrev gQf (K : gK) (post : UInt32 → gG → Prop) : Array Value → State → Outcome → State → Prop := va_Qf post (gB K) (gA K)
abbrev gQv (K : gK) (post : gG → Prop) : Array Value → State → Outcome → State → Prop := va_Qv post (gB K) (gA K)
abbrev gQq (K : gK) (post : Option Nat → gG → Prop) : Array Value → State → Outcome → State → Prop := va_Qq post (gB K) (gA K)
/-- what a method's body stands on -/
def gM (K : gK) (p : Program) (s : State) (m : MethodId) (args : Array Value) (c : Code) (cc : ByteArray) (nL : Nat) (own : String) : Prop := CallFix p m c cc nL s args lw_all own ∧ gX K s
section GRow
variable {p : Program} {l : Launch} {e : Env} {R : Room} {s : State} {m : MethodId} {args : Array Value} {below : List Frame} {meth : Method} {c : Code} {H : Heap} {locs : List Loc} {cells slots : Nat} {Q : State → Prop}
variable {cc : ByteArray} {pc nL : Nat} {ls : Array Slot} {rest : List Value} {K : gK} {G : gG} {own : String} {a : Nat}
theorem gM.hx (M : gM K p s m args c cc nL own) : p.tables.exec = Jvm.exec := M.1.1
theorem gM.hb (M : gM K p s m args c cc nL own) : c.code = cc := M.1.2.1
theorem gM.hown (M : gM K p s m args c cc nL own) : s.vm.findClass own = some m.cls := M.1.2.2.2.1
theorem gM.hts (M : gM K p s m args c cc nL own) : ∀ w ∈ lw_all, w.before args s = true := M.1.2.2.2.2
theorem gM.hK (M : gM K p s m args c cc nL own) : va_K (kD K) gCl (gTys K) s := M.2.1
theorem gM.hz (M : gM K p s m args c cc nL own) : k0 K ≤ s.heap.size := M.2.2.2.2.2.2.2.2.2.2.2.2
theorem gM.nw (M : gM K p s m args c cc nL own) {w : Cond} (h : w ∈ lw_tbl) (hk : gNwK w = true) : va_Nw w s := M.2.2.2.2.2.2.2.2.1 w h hk
theorem gA_ge {q : Nat} {H0 : Heap} (hz : k0 K ≤ H0.size) (h : H0.size ≤ q) : gA K q := Nat.le_trans hz h
theorem gR.raw (hR : gR K G H) {x : va_E} (ha : G a = some (.inl x)) : va_at (kD K) gCl (a, x) H := by
  obtain ⟨Rw, h1, h2⟩ := hR
  exact h1 a x (h2.raw ha)
theorem gR.one (hR : gR K G H) {x : va_E} (ha : G a = some (.inl x)) : va_P (kD K) gCl [(a, x)] H := by
  obtain ⟨Rw, h1, h2⟩ := hR
  exact h1.one (h2.raw ha)
theorem gR.E (hR : gR K G H) : G (kE K) = some (.inl (alA K 0 (fun _ => none))) := by
  obtain ⟨Rw, h1, ar, q1, q2, q3, q4, q5, q6, q7, q8⟩ := hR
  exact q6
/-- the heap moves, the run's own cells stay -/
theorem gR.kept {H1 : Heap} (hR : gR K G H) (h : ∀ q : Nat, q < H.size → H1[q]? = H[q]?) : gR K G H1 := by
  obtain ⟨Rw, h1, h2⟩ := hR
  exact ⟨Rw, fun a x hx => (h1 a x hx).kept (h a (h1 a x hx).lt), h2⟩
theorem gR.drop (hR : gR K G H) {x : va_E} (ha : G a = some (.inl x)) (hE : a ≠ kE K) : gR K (oD G a) H := by
  obtain ⟨Rw, h1, h2⟩ := hR
  exact ⟨Rw, h1, h2.drop ha hE⟩
/-- an object's address isn't the empty array's -/
theorem gR.neE (hR : gR K G H) {x : Nat × List Value} (ha : G a = some (.inl (.inr x))) : a ≠ kE K := oNe ha hR.E (by unfold alA; intro q; cases q)
theorem gR.neA (hR : gR K G H) {cA : ClassId} {n : Nat} {v : (Nat → Int32) ⊕ (Nat → Int64) ⊕ (Nat → UInt32) ⊕ (Nat → UInt64) ⊕ (Nat → Option Nat)} (ha : G a = some (.inl (.inl (cA, (n, v))))) (hn : 0 < n) : a ≠ kE K := oNe ha hR.E (by unfold alA; intro q; cases q; omega)
/-- an object is in the heap, of its class -/
theorem gR.recv (M : gM K p s m args c cc nL own) (hR : gR K G H) {ci : Nat} {fs : List Value} (ha : G a = some (.inl (.inr (ci, fs)))) {r : vw_C} (hc : gCl[ci]? = some r) : ∃ cell : Cell, H[a]? = some cell ∧ cell.vm.isStatics = false ∧ s.vm.findClass r.1 = some cell.cls := va_recv M.hK (hR.one ha) (q0 := 0) hc rfl
theorem gR.recvL (M : gM K p s m args c cc nL own) (hR : gR K G H) {xs : List Nat} (ha : G a = some (.inr (.inl xs))) : ∃ cell : Cell, H[a]? = some cell ∧ cell.vm.isStatics = false ∧ s.vm.findClass "java/util/ArrayList" = some cell.cls := by
  obtain ⟨Rw, h1, ar, q1, q2, -⟩ := hR
  obtain ⟨mo, cap, f, r1, -⟩ := q2 a xs ha
  exact va_recv (q := (RJ2, TJ2, 3)) M.hK (h1.one r1) (q0 := 0) rfl rfl
theorem gR.recvT (M : gM K p s m args c cc nL own) (hR : gR K G H) {cs : List Nat} (ha : G a = some (.inr (.inr cs))) : ∃ cell : Cell, H[a]? = some cell ∧ cell.vm.isStatics = false ∧ s.vm.findClass "java/lang/StringBuilder" = some cell.cls := by
  obtain ⟨Rw, h1, ar, q1, q2, q3, -⟩ := hR
  obtain ⟨co, ml, cap, f, r1, -⟩ := q3 a cs ha
  exact va_recv (q := (RJ7, TJ7, 4)) M.hK (h1.one r1) (q0 := 0) rfl rfl
/-- a write to an entry's cell, by any row of the kit that is given the writable cells as a list -/
theorem gR.write (M : gM K p s m args c cc nL own) (hR : gR K G H) (hS : va_S (gA K) s.heap H locs) {x0 : va_E} (ha : G a = some (.inl x0)) (hE : a ≠ kE K) :
    ∃ (ws : va_W) (k : Nat), va_P (kD K) gCl ws H ∧ va_D (gA K) ws ∧ ws[k]? = some (a, x0) ∧ (∀ (b : Nat) (y : va_E), G b = some (.inl y) → b ≠ kE K → ∃ j : Nat, ws[j]? = some (b, y)) ∧
      ∀ (x : va_E) (H1 : Heap) (locs1 : List Loc), va_P (kD K) gCl (ws.set k (a, x)) H1 → va_S (gA K) s.heap H1 locs1 → gR K (oU G a (.inl x)) H1 := by
  obtain ⟨Rw, h1, h2⟩ := hR
  obtain ⟨ws, w1, w2, w3, w4⟩ := h1.list (k0 K)
  have hlow : ∀ (b : Nat) (y : va_E), Rw b = some y → b ≠ kE K → k0 K ≤ b := by
    intro b y hb hne
    obtain ⟨ar, q1, q2, q3, q4, q5, q6, q7, q8⟩ := h2
    rcases q8 b y hb with q | q
    · exact absurd q hne
    · exact q
  obtain ⟨k, hk⟩ := w3 a x0 (h2.raw ha) (hlow a x0 (h2.raw ha) hE)
  refine ⟨ws, k, w1, w2, hk, fun b y hb hne => w3 b y (h2.raw hb) (hlow b y (h2.raw hb) hne), fun x H1 locs1 hP hS1 => ⟨oU Rw a x, ?_, h2.upd ha hE⟩⟩
  exact h1.setL hS hS1 M.hz w3 w4 hk hP
/-- a new cell, by any row of the kit that is given the writable cells as a list -/
theorem gR.make (M : gM K p s m args c cc nL own) (hR : gR K G H) (hS : va_S (gA K) s.heap H locs) :
    ∃ ws : va_W, va_P (kD K) gCl ws H ∧ va_D (gA K) ws ∧
      ∀ (q : Nat) (x : va_E) (H1 : Heap) (locs1 : List Loc), va_P (kD K) gCl (ws ++ [(q, x)]) H1 → va_D (gA K) (ws ++ [(q, x)]) → va_S (gA K) s.heap H1 locs1 → gR K (oU G q (.inl x)) H1 ∧ G q = none := by
  obtain ⟨Rw, h1, h2⟩ := hR
  obtain ⟨ws, w1, w2, w3, w4⟩ := h1.list (k0 K)
  refine ⟨ws, w1, w2, fun q x H1 locs1 hP hD hS1 => ?_⟩
  obtain ⟨n1, n2, n3⟩ := h1.newL hS hS1 M.hz w3 hP hD
  obtain ⟨m1, m2⟩ := h2.new (x := x) n2 n3
  exact ⟨⟨oU Rw q x, n1, m1⟩, m2⟩
/-- getfield -/
theorem g_get (M : gM K p s m args c cc nL own) (hR : gR K G H) {ref C : String} {T : u_T} {N ci index : Nat} {fs : List Value} (he : G a = some (.inl (.inr (ci, fs)))) (hc : gCl[ci]? = some (C, T, N)) (hin : ∀ w ∈ u_ws C T N, w ∈ lw_all) (k : Nat) (hk : k < N) (hlink : (Cond.fieldLink own index ref (T k).2.1 (T k).2.2.1) ∈ lw_all)
    (hsame : ∀ x, s.fieldFound? (T k).1 (T k).2.1 (T k).2.2.1 = some x → s.fieldFound? ref (T k).2.1 (T k).2.2.1 = some x) {v : Value} (hv : fs[k]? = some v) (hdg : decode cc pc = .ok (.getfield index, 3))
    (kk : W p l e R s m args below meth c H locs cells slots Q (F0 m (pc + 3) ls (v :: rest))) : W p l e R s m args below meth c H locs cells slots Q (F0 m pc ls (.ref a :: rest)) :=
  va_get M.hx M.hb M.hts hin M.hown M.hK (hR.one he) 0 rfl hc k hk (M.hts _ hlink) hsame hv hdg kk
/-- a nest mate's getfield -/
theorem g_getN (M : gM K p s m args c cc nL own) (hR : gR K G H) {ref C host : String} {T : u_T} {N ci index : Nat} {fs : List Value} (he : G a = some (.inl (.inr (ci, fs)))) (hc : gCl[ci]? = some (C, T, N)) (hin : ∀ w ∈ u_ws C T N, w ∈ lw_all) (k : Nat) (hk : k < N) (hlink : (Cond.fieldLinkNest own index ref (T k).2.1 (T k).2.2.1 host) ∈ lw_tbl)
    (hsame : ∀ x, s.fieldFound? (T k).1 (T k).2.1 (T k).2.2.1 = some x → s.fieldFound? ref (T k).2.1 (T k).2.2.1 = some x) {v : Value} (hv : fs[k]? = some v) (hdg : decode cc pc = .ok (.getfield index, 3))
    (kk : W p l e R s m args below meth c H locs cells slots Q (F0 m (pc + 3) ls (v :: rest))) : W p l e R s m args below meth c H locs cells slots Q (F0 m pc ls (.ref a :: rest)) :=
  va_getN M.hx M.hb M.hts hin M.hown M.hK (hR.one he) 0 rfl hc k hk (va_Nw.use rfl (M.nw hlink rfl)) hsame hv hdg kk
/-- putfield -/
theorem g_put (M : gM K p s m args c cc nL own) (hR : gR K G H) (hS : va_S (gA K) s.heap H locs) {ref C : String} {T : u_T} {N ci index : Nat} {fs : List Value} (he : G a = some (.inl (.inr (ci, fs)))) (hc : gCl[ci]? = some (C, T, N)) (hin : ∀ w ∈ u_ws C T N, w ∈ lw_all) (ty0 : Nat → FieldType) (hty : ∀ k, k < N → parseFieldDescriptor (T k).2.2.1 = some (ty0 k)) (hnm : ∀ a, a < N → ∀ b, b < N → a ≠ b → (T a).2.1 ≠ (T b).2.1) (k : Nat) (hk : k < N) (hlink : (Cond.fieldLink own index ref (T k).2.1 (T k).2.2.1) ∈ lw_all)
    (hsame : ∀ x, s.fieldFound? (T k).1 (T k).2.1 (T k).2.2.1 = some x → s.fieldFound? ref (T k).2.1 (T k).2.2.1 = some x) (hfin : (T k).2.2.2 = false) {v : Value} (hn : narrow (ty0 k) v = v) (hfit : fits (ty0 k) v = true) (hl : k < fs.length) (hdg : decode cc pc = .ok (.putfield index, 3))
    (kk : ∀ (H1 : Heap) (locs1 : List Loc), gR K (oU G a (.inl (.inr (ci, fs.set k v)))) H1 → va_S (gA K) s.heap H1 locs1 → W p l e R s m args below meth c H1 locs1 cells slots Q (F0 m (pc + 3) ls rest)) : W p l e R s m args below meth c H locs cells slots Q (F0 m pc ls (v :: .ref a :: rest)) := by
  obtain ⟨ws, q, w1, w2, w3, -, w5⟩ := hR.write M hS he (hR.neE he)
  exact va_put M.hx M.hb M.hts hin ty0 hty hnm M.hown M.hK w1 w2 hS q w3 hc k hk (M.hts _ hlink) hsame hfin (hty k hk) hn hfit hl hdg (fun H1 locs1 r1 _ r3 => kk H1 locs1 (w5 _ H1 locs1 r1 r3) r3)
theorem g_putF (M : gM K p s m args c cc nL own) (hR : gR K G H) (hS : va_S (gA K) s.heap H locs) {ref C : String} {T : u_T} {N ci index : Nat} {fs : List Value} (he : G a = some (.inl (.inr (ci, fs)))) (hc : gCl[ci]? = some (C, T, N)) (hin : ∀ w ∈ u_ws C T N, w ∈ lw_all) (ty0 : Nat → FieldType) (hty : ∀ k, k < N → parseFieldDescriptor (T k).2.2.1 = some (ty0 k)) (hnm : ∀ a, a < N → ∀ b, b < N → a ≠ b → (T a).2.1 ≠ (T b).2.1) (k : Nat) (hk : k < N) (hlink : (Cond.fieldLink own index ref (T k).2.1 (T k).2.2.1) ∈ lw_all)
    (hsame : ∀ x, s.fieldFound? (T k).1 (T k).2.1 (T k).2.2.1 = some x → s.fieldFound? ref (T k).2.1 (T k).2.2.1 = some x) (hfin : (T k).2.2.2 = true) (hin2 : meth.name = "<init>") (hdecl : (T k).1 = own) {v : Value} (hn : narrow (ty0 k) v = v) (hfit : fits (ty0 k) v = true) (hl : k < fs.length) (hdg : decode cc pc = .ok (.putfield index, 3))
    (kk : ∀ (H1 : Heap) (locs1 : List Loc), gR K (oU G a (.inl (.inr (ci, fs.set k v)))) H1 → va_S (gA K) s.heap H1 locs1 → W p l e R s m args below meth c H1 locs1 cells slots Q (F0 m (pc + 3) ls rest)) : W p l e R s m args below meth c H locs cells slots Q (F0 m pc ls (v :: .ref a :: rest)) := by
  obtain ⟨ws, q, w1, w2, w3, -, w5⟩ := hR.write M hS he (hR.neE he)
  exact va_putF M.hx M.hb M.hts hin ty0 hty hnm M.hown M.hK w1 w2 hS q w3 hc k hk (M.hts _ hlink) hsame hfin hin2 hdecl (hty k hk) hn hfit hl hdg (fun H1 locs1 r1 _ r3 => kk H1 locs1 (w5 _ H1 locs1 r1 r3) r3)
theorem g_putN (M : gM K p s m args c cc nL own) (hR : gR K G H) (hS : va_S (gA K) s.heap H locs) {ref C host : String} {T : u_T} {N ci index : Nat} {fs : List Value} (he : G a = some (.inl (.inr (ci, fs)))) (hc : gCl[ci]? = some (C, T, N)) (hin : ∀ w ∈ u_ws C T N, w ∈ lw_all) (ty0 : Nat → FieldType) (hty : ∀ k, k < N → parseFieldDescriptor (T k).2.2.1 = some (ty0 k)) (hnm : ∀ a, a < N → ∀ b, b < N → a ≠ b → (T a).2.1 ≠ (T b).2.1) (k : Nat) (hk : k < N) (hlink : (Cond.fieldLinkNest own index ref (T k).2.1 (T k).2.2.1 host) ∈ lw_tbl)
    (hsame : ∀ x, s.fieldFound? (T k).1 (T k).2.1 (T k).2.2.1 = some x → s.fieldFound? ref (T k).2.1 (T k).2.2.1 = some x) (hfin : (T k).2.2.2 = false) {v : Value} (hn : narrow (ty0 k) v = v) (hfit : fits (ty0 k) v = true) (hl : k < fs.length) (hdg : decode cc pc = .ok (.putfield index, 3))
    (kk : ∀ (H1 : Heap) (locs1 : List Loc), gR K (oU G a (.inl (.inr (ci, fs.set k v)))) H1 → va_S (gA K) s.heap H1 locs1 → W p l e R s m args below meth c H1 locs1 cells slots Q (F0 m (pc + 3) ls rest)) : W p l e R s m args below meth c H locs cells slots Q (F0 m pc ls (v :: .ref a :: rest)) := by
  obtain ⟨ws, q, w1, w2, w3, -, w5⟩ := hR.write M hS he (hR.neE he)
  exact va_putN M.hx M.hb M.hts hin ty0 hty hnm M.hown M.hK w1 w2 hS q w3 hc k hk (va_Nw.use rfl (M.nw hlink rfl)) hsame hfin (hty k hk) hn hfit hl hdg (fun H1 locs1 r1 _ r3 => kk H1 locs1 (w5 _ H1 locs1 r1 r3) r3)
end GRow
