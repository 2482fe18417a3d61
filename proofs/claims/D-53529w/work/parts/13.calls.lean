/-! CALLS AND ENDS over the ghost heap -/
abbrev gRm (fr mc ms lo : Nat) : Room := { frames := fr, cells := mc, slots := ms, locals := lo }
/-- a callee's name, its number of arguments -/
def gMd (y : MethodName) (n : Nat) : Prop := y.cls ≠ "java/lang/invoke/MethodHandle" ∧ y.cls ≠ "java/lang/invoke/VarHandle" ∧ (parseMethodDescriptor y.desc).map (fun d => d.parameters.length) = some n
section GCall
variable {p : Program} {l : Launch} {e : Env} {R : Room} {s : State} {m : MethodId} {args : Array Value} {below : List Frame} {meth : Method} {c : Code} {H : Heap} {locs : List Loc} {cells slots : Nat} {Q : State → Prop}
variable {cc : ByteArray} {pc nL : Nat} {ls : Array Slot} {rest st0 : List Value} {K : gK} {G : gG} {own : String} {a : Nat}
/-- a method's body -/
theorem g_met {y : MethodName} {ret : Option FieldType} {rm : Room} {av : List Value} {Qc : Array Value → State → Outcome → State → Prop} {mc ms : Nat} (hy : plainName y.cls = true) (hsl : (lg_sl av).length ≤ nL)
    (body : ∀ (p : Program) (e : Env) (s : State) (m : MethodId) (below : List Frame) (meth : Method) (c : Code), gM K p s m av.toArray c cc nL y.cls → meth.sig.returnType = ret → meth.locks = false → meth.name = y.name → gR K G s.heap → ∀ ls : Array Slot, lv_has ls nL (lv_args 0 av) → W p l e rm s m av.toArray below meth c s.heap [] 0 0 (MQ below Qc av.toArray s mc ms (gA K)) (F0 m 0 ls [])) :
    Met l y (ws_ y cc nL ret) rm (gPre K av G) Qc mc ms (gA K) := by
  refine Met.ofW (cc := cc) (maxL := nL) (ret := ret) hy rfl ?_
  intro p e s m args below meth c s₁ B hml hv
  obtain ⟨rfl, hX, hR⟩ := hv
  have hts := atoms_spec (ws := ws_ y cc nL ret) B.pre
  have hl := lv_entry av (n := nL) hsl
  rw [lg_entry_eq]
  exact body p e s m below meth c ⟨⟨B.exec, B.bytes, hml, findClass_of_methodNamed B.named, fun w h => hts w (List.mem_cons_of_mem _ h)⟩, hX⟩ B.returns B.notSynchronized (name_of_methodNamed B.named B.method).1 hR _ hl
theorem g_preS (M : gM K p s m args c cc nL own) (hR : gR K G H) (hS : va_S (gA K) s.heap H locs) (av : List Value) : PreS s H (gPre K av G) av :=
  ⟨gPre_blind, fun U hU hW => ⟨rfl, M.2.moved hS hU hW, by rw [hU]; exact hR⟩⟩
theorem g_preV (M : gM K p s m args c cc nL own) (hR : gR K G H) (hS : va_S (gA K) s.heap H locs) {C : String} {b : Nat} {As : List Value} (hr : ∃ cell : Cell, H[b]? = some cell ∧ cell.vm.isStatics = false ∧ s.vm.findClass C = some cell.cls) : PreV s H C b (gPre K (.ref b :: As) G) As :=
  ⟨gPre_blind, hr, fun U hU hW => ⟨rfl, M.2.moved hS hU hW, by rw [hU]; exact hR⟩⟩
variable {y : MethodName} {bytes : ByteArray} {maxL mc ms index : Nat} {ret : Option FieldType} {rm : Room} {Qc : Array Value → State → Outcome → State → Prop} {As : List Value} {b : Nat} {C host : String}
/-- invokevirtual of a method of the receiver's own class -/
theorem g_V (M : gM K p s m args c cc nL own) (hR : gR K G H) (hS : va_S (gA K) s.heap H locs) (hM : Met l y (ws_ y bytes maxL ret) rm (gPre K (.ref b :: As) G) Qc mc ms (gA K)) (hT : GoodIn lw_all (wsV own index C y (ws_ y bytes maxL ret))) (n : Nat) (hd : gMd y n) (hC : y.cls = C) (hrm : rm.cells = mc ∧ rm.slots = ms) (hro : rm.frames + 1 ≤ R.frames ∧ 8 + (maxL + 11) + rm.locals ≤ R.locals)
    (hr : ∃ cell : Cell, H[b]? = some cell ∧ cell.vm.isStatics = false ∧ s.vm.findClass C = some cell.cls) (hn : As.length = n) (hsz : ls.size = nL) (hst : st0 = As.reverse ++ .ref b :: rest) (hW : 2 * (F0 m pc ls st0).monitorRoom + (rest.map fun v => v.category).sum ≤ 8) (hdg : decode cc pc = .ok (.invokevirtual index, 3)) (hf : cells + mc ≤ R.cells ∧ slots + ms ≤ R.slots) :
    va_Run p l e R s m args below meth c H locs cells slots mc ms (F0 m pc ls st0) rest (Qc (Value.ref b :: As).toArray) (gA K) :=
  va_runV M.1 hM (cwV n M.hts hT rfl hrm.1 hrm.2 ⟨hC, hd⟩ hro) (g_preV M hR hS hr) rfl hn hsz hst hW hdg hf
theorem g_S (M : gM K p s m args c cc nL own) (hR : gR K G H) (hS : va_S (gA K) s.heap H locs) (hM : Met l y (ws_ y bytes maxL ret) rm (gPre K As G) Qc mc ms (gA K)) (hT : GoodIn lw_all (va_wsS own index y (ws_ y bytes maxL ret))) (n : Nat) (hd : gMd y n) (hrm : rm.cells = mc ∧ rm.slots = ms) (hro : rm.frames + 1 ≤ R.frames ∧ 8 + (maxL + 11) + rm.locals ≤ R.locals)
    (hn : As.length = n) (hsz : ls.size = nL) (hst : st0 = As.reverse ++ rest) (hW : 2 * (F0 m pc ls st0).monitorRoom + (rest.map fun v => v.category).sum ≤ 8) (hdg : decode cc pc = .ok (.invokestatic index, 3)) (hf : cells + mc ≤ R.cells ∧ slots + ms ≤ R.slots) :
    va_Run p l e R s m args below meth c H locs cells slots mc ms (F0 m pc ls st0) rest (Qc As.toArray) (gA K) :=
  va_runS M.1 hM (va_cwS n M.hts hT rfl hrm.1 hrm.2 hd hro) (g_preS M hR hS As) rfl hn hsz hst hW hdg hf
theorem g_I (M : gM K p s m args c cc nL own) (hR : gR K G H) (hS : va_S (gA K) s.heap H locs) (hM : Met l y (ws_ y bytes maxL none) rm (gPre K (.ref b :: As) G) Qc mc ms (gA K)) (hc : Cond.code y bytes maxL none ∈ lw_all) (hi : Cond.initialized y.cls ∈ lw_all) (hk : Cond.methodLink own index y ∈ lw_all) (hin : Cond.instanceMethod y ∈ lw_all) (n : Nat) (hd : gMd y n) (hnm : y.name = "<init>") (hrm : rm.cells = mc ∧ rm.slots = ms) (hro : rm.frames + 1 ≤ R.frames ∧ 8 + (maxL + 11) + rm.locals ≤ R.locals)
    (hn : As.length = n) (hsz : ls.size = nL) (hst : st0 = As.reverse ++ .ref b :: rest) (hW : 2 * (F0 m pc ls st0).monitorRoom + (rest.map fun v => v.category).sum ≤ 8) (hdg : decode cc pc = .ok (.invokespecial index, 3)) (hf : cells + mc ≤ R.cells ∧ slots + ms ≤ R.slots) :
    va_Run p l e R s m args below meth c H locs cells slots mc ms (F0 m pc ls st0) rest (Qc (Value.ref b :: As).toArray) (gA K) :=
  va_runI M.1 hM (cwI n M.hts (lw_meth hc) rfl hrm.1 hrm.2 (M.hts _ hi) (M.hts _ hk) (M.hts _ hin) hnm hd hro) (g_preS M hR hS (.ref b :: As)) rfl hn hsz hst hW hdg hf
/-- a nest mate's static method -/
theorem g_SN (M : gM K p s m args c cc nL own) (hR : gR K G H) (hS : va_S (gA K) s.heap H locs) (hM : Met l y (ws_ y bytes maxL ret) rm (gPre K As G) Qc mc ms (gA K)) (hc : Cond.code y bytes maxL ret ∈ lw_all) (hi : Cond.initialized y.cls ∈ lw_all) (hk : Cond.methodLinkNest own index y host ∈ lw_tbl) (hs : Cond.static y ∈ lw_all) (n : Nat) (hd : gMd y n) (hrm : rm.cells = mc ∧ rm.slots = ms) (hro : rm.frames + 1 ≤ R.frames ∧ 8 + (maxL + 11) + rm.locals ≤ R.locals)
    (hn : As.length = n) (hsz : ls.size = nL) (hst : st0 = As.reverse ++ rest) (hW : 2 * (F0 m pc ls st0).monitorRoom + (rest.map fun v => v.category).sum ≤ 8) (hdg : decode cc pc = .ok (.invokestatic index, 3)) (hf : cells + mc ≤ R.cells ∧ slots + ms ≤ R.slots) :
    va_Run p l e R s m args below meth c H locs cells slots mc ms (F0 m pc ls st0) rest (Qc As.toArray) (gA K) :=
  va_runSN M.1 hM ⟨va_cnB n M.hts (lw_meth hc) rfl hrm.1 hrm.2 (M.nw hk rfl) (M.hts _ hi) hd hro, M.hts _ hs, trivial⟩ (g_preS M hR hS As) rfl hn hsz hst hW hdg hf
/-- a virtual call through a superclass's name, the receiver's class selecting y: by the declared method's own words (named: x, found in owner) -/
theorem g_U {x : MethodName} {owner : String} (M : gM K p s m args c cc nL own) (hR : gR K G H) (hS : va_S (gA K) s.heap H locs) (hM : Met l y (ws_ y bytes maxL ret) rm (gPre K (.ref b :: As) G) Qc mc ms (gA K)) (n : Nat) (cw : va_CU R s args own C owner index x y bytes maxL ret (ws_ y bytes maxL ret) rm mc ms n)
    (hr : ∃ cell : Cell, H[b]? = some cell ∧ cell.vm.isStatics = false ∧ s.vm.findClass C = some cell.cls) (hn : As.length = n) (hsz : ls.size = nL) (hst : st0 = As.reverse ++ .ref b :: rest) (hW : 2 * (F0 m pc ls st0).monitorRoom + (rest.map fun v => v.category).sum ≤ 8) (hdg : decode cc pc = .ok (.invokevirtual index, 3)) (hf : cells + mc ≤ R.cells ∧ slots + ms ≤ R.slots) :
    va_Run p l e R s m args below meth c H locs cells slots mc ms (F0 m pc ls st0) rest (Qc (Value.ref b :: As).toArray) (gA K) :=
  va_runU M.1 hM cw (g_preV M hR hS hr) rfl hn hsz hst hW hdg hf
/-- a call through an interface, the receiver's class number ci -/
theorem g_F {x : MethodName} {ci count : Nat} {r : vw_C} (M : gM K p s m args c cc nL own) (hR : gR K G H) (hS : va_S (gA K) s.heap H locs) (hM : Met l y (ws_ y bytes maxL ret) rm (gPre K (.ref b :: As) G) Qc mc ms (gA K)) (hcl : gCl[ci]? = some r) (hF : (r.1, x, y) ∈ gFw) (h1 : Cond.methodLink own index x ∈ lw_all) (h2 : Cond.selects r.1 x y ∈ lw_all) (h3 : Cond.instanceMethod y ∈ lw_all) (h4 : Cond.initialized y.cls ∈ lw_all) (h5 : Cond.code y bytes maxL ret ∈ lw_all) (n : Nat) (hd : gMd x n) (hrm : rm.cells = mc ∧ rm.slots = ms) (hro : rm.frames + 1 ≤ R.frames ∧ 8 + (maxL + 11) + rm.locals ≤ R.locals)
    (hr : ∃ cell : Cell, H[b]? = some cell ∧ cell.vm.isStatics = false ∧ s.vm.findClass r.1 = some cell.cls) (hn : As.length = n) (hsz : ls.size = nL) (hst : st0 = As.reverse ++ .ref b :: rest) (hW : 2 * (F0 m pc ls st0).monitorRoom + (rest.map fun v => v.category).sum ≤ 8) (hdg : decode cc pc = .ok (.invokeinterface index count, 5)) (hf : cells + mc ≤ R.cells ∧ slots + ms ≤ R.slots) :
    va_Run5 p l e R s m args below meth c H locs cells slots mc ms (F0 m pc ls st0) rest (Qc (Value.ref b :: As).toArray) (gA K) := by
  refine va_runF (M.hK.1 ci r hcl).2 M.1 hM (va_cwF n M.hts ?_ rfl hrm.1 hrm.2 (M.2.2.2.2.2.2.2.2.2.1 _ hF) hd hro) (g_preV M hR hS hr) rfl hn hsz hst hW hdg hf
  refine lw_app ?_ (lw_meth h5)
  intro w hw
  simp only [List.mem_cons, List.not_mem_nil, or_false] at hw
  rcases hw with e | e | e | e
  · rw [e]; exact h1
  · rw [e]; exact h2
  · rw [e]; exact h3
  · rw [e]; exact h4
variable {av : Array Value}
theorem g_ki {post : Int32 → gG → Prop} (hr : va_Run p l e R s m args below meth c H locs cells slots mc ms (F0 m pc ls st0) rest (gQi K post av) (gA K)) (hS : va_S (gA K) s.heap H locs)
    (kk : ∀ (r : Int32) (G1 : gG) (H1 : Heap) (locs1 : List Loc), post r G1 → gR K G1 H1 → va_S (gA K) s.heap H1 locs1 → W p l e R s m args below meth c H1 locs1 (cells + mc) (slots + ms) Q (F0 m (pc + 3) ls (.int r :: rest))) : W p l e R s m args below meth c H locs cells slots Q (F0 m pc ls st0) :=
  va_calli hr hS (fun _ _ h => h) (fun _ h => h) (fun r u t H1 locs1 ht _ hp hb _ _ hS1 => kk r u H1 locs1 hp (by rw [← ht]; exact hb) hS1)
theorem g_kf {post : UInt32 → gG → Prop} (hr : va_Run p l e R s m args below meth c H locs cells slots mc ms (F0 m pc ls st0) rest (gQf K post av) (gA K)) (hS : va_S (gA K) s.heap H locs)
    (kk : ∀ (r : UInt32) (G1 : gG) (H1 : Heap) (locs1 : List Loc), post r G1 → gR K G1 H1 → va_S (gA K) s.heap H1 locs1 → W p l e R s m args below meth c H1 locs1 (cells + mc) (slots + ms) Q (F0 m (pc + 3) ls (.float r :: rest))) : W p l e R s m args below meth c H locs cells slots Q (F0 m pc ls st0) :=
  va_callf hr hS (fun _ _ h => h) (fun _ h => h) (fun r u t H1 locs1 ht _ hp hb _ _ hS1 => kk r u H1 locs1 hp (by rw [← ht]; exact hb) hS1)
theorem g_kv {post : gG → Prop} (hr : va_Run p l e R s m args below meth c H locs cells slots mc ms (F0 m pc ls st0) rest (gQv K post av) (gA K)) (hS : va_S (gA K) s.heap H locs)
    (kk : ∀ (G1 : gG) (H1 : Heap) (locs1 : List Loc), post G1 → gR K G1 H1 → va_S (gA K) s.heap H1 locs1 → W p l e R s m args below meth c H1 locs1 (cells + mc) (slots + ms) Q (F0 m (pc + 3) ls rest)) : W p l e R s m args below meth c H locs cells slots Q (F0 m pc ls st0) :=
  va_callv hr hS (fun _ _ h => h) (fun _ h => h) (fun u t H1 locs1 ht _ hp hb _ _ hS1 => kk u H1 locs1 hp (by rw [← ht]; exact hb) hS1)
theorem g_kq {post : Option Nat → gG → Prop} (hr : va_Run p l e R s m args below meth c H locs cells slots mc ms (F0 m pc ls st0) rest (gQq K post av) (gA K)) (hS : va_S (gA K) s.heap H locs)
    (kk : ∀ (r : Option Nat) (G1 : gG) (H1 : Heap) (locs1 : List Loc), post r G1 → gR K G1 H1 → va_S (gA K) s.heap H1 locs1 → W p l e R s m args below meth c H1 locs1 (cells + mc) (slots + ms) Q (F0 m (pc + 3) ls (va_rf r :: rest))) : W p l e R s m args below meth c H locs cells slots Q (F0 m pc ls st0) :=
  va_callq hr hS (fun _ _ h => h) (fun _ h => h) (fun r u t H1 locs1 ht _ hp hb _ _ hS1 => kk r u H1 locs1 hp (by rw [← ht]; exact hb) hS1)
theorem g_k5i {post : Int32 → gG → Prop} (hr : va_Run5 p l e R s m args below meth c H locs cells slots mc ms (F0 m pc ls st0) rest (gQi K post av) (gA K)) (hS : va_S (gA K) s.heap H locs)
    (kk : ∀ (r : Int32) (G1 : gG) (H1 : Heap) (locs1 : List Loc), post r G1 → gR K G1 H1 → va_S (gA K) s.heap H1 locs1 → W p l e R s m args below meth c H1 locs1 (cells + mc) (slots + ms) Q (F0 m (pc + 5) ls (.int r :: rest))) : W p l e R s m args below meth c H locs cells slots Q (F0 m pc ls st0) :=
  va_callFi hr hS (fun _ _ h => h) (fun _ h => h) (fun r u t H1 locs1 ht _ hp hb _ _ hS1 => kk r u H1 locs1 hp (by rw [← ht]; exact hb) hS1)
theorem g_k5q {post : Option Nat → gG → Prop} (hr : va_Run5 p l e R s m args below meth c H locs cells slots mc ms (F0 m pc ls st0) rest (gQq K post av) (gA K)) (hS : va_S (gA K) s.heap H locs)
    (kk : ∀ (r : Option Nat) (G1 : gG) (H1 : Heap) (locs1 : List Loc), post r G1 → gR K G1 H1 → va_S (gA K) s.heap H1 locs1 → W p l e R s m args below meth c H1 locs1 (cells + mc) (slots + ms) Q (F0 m (pc + 5) ls (va_rf r :: rest))) : W p l e R s m args below meth c H locs cells slots Q (F0 m pc ls st0) :=
  va_callFq hr hS (fun _ _ h => h) (fun _ h => h) (fun r u t H1 locs1 ht _ hp hb _ _ hS1 => kk r u H1 locs1 hp (by rw [← ht]; exact hb) hS1)
/-- ends -/
theorem g_iret (M : gM K p s m args c cc nL own) (hr : meth.sig.returnType = some .int) (hlk : meth.locks = false) {post : Int32 → gG → Prop} {v : Int32} (hR : gR K G H) (hS : va_S (gA K) s.heap H locs) (h1 : cells ≤ mc) (h2 : slots ≤ ms) (hdg : decode cc pc = .ok (.ireturn, 1)) (hp : post v G) : W p l e R s m args below meth c H locs cells slots (MQ below (gQi K post) args s mc ms (gA K)) (F0 m pc ls [.int v]) :=
  W.widen h1 h2 (W.iret M.hx M.hb hr (fun t ht _ => ⟨⟨v, G, rfl, hp, by show gR K G t.heap; rw [ht]; exact hR⟩, hS.F ht⟩) hS.2.2 hdg hlk)
/-- a truth value, a char .. -/
theorem g_zret {ty : FieldType} (M : gM K p s m args c cc nL own) (hr : meth.sig.returnType = some ty) (hlk : meth.locks = false) {post : Int32 → gG → Prop} {v : Int32} (hn : narrow ty (.int v) = .int v) (hR : gR K G H) (hS : va_S (gA K) s.heap H locs) (h1 : cells ≤ mc) (h2 : slots ≤ ms) (hdg : decode cc pc = .ok (.ireturn, 1)) (hp : post v G) : W p l e R s m args below meth c H locs cells slots (MQ below (gQi K post) args s mc ms (gA K)) (F0 m pc ls [.int v]) :=
  W.widen h1 h2 (W.zret M.hx M.hb hr hn (fun t ht _ => ⟨⟨v, G, rfl, hp, by show gR K G t.heap; rw [ht]; exact hR⟩, hS.F ht⟩) hS.2.2 hdg hlk)
theorem g_fret (M : gM K p s m args c cc nL own) (hr : meth.sig.returnType = some .float) (hlk : meth.locks = false) {post : UInt32 → gG → Prop} {v : UInt32} (hR : gR K G H) (hS : va_S (gA K) s.heap H locs) (h1 : cells ≤ mc) (h2 : slots ≤ ms) (hdg : decode cc pc = .ok (.freturn, 1)) (hp : post v G) : W p l e R s m args below meth c H locs cells slots (MQ below (gQf K post) args s mc ms (gA K)) (F0 m pc ls [.float v]) :=
  W.widen h1 h2 (W.fret M.hx M.hb hr (fun t ht _ => ⟨⟨v, G, rfl, hp, by show gR K G t.heap; rw [ht]; exact hR⟩, hS.F ht⟩) hS.2.2 hdg hlk)
theorem g_vret (M : gM K p s m args c cc nL own) (hr : meth.sig.returnType = none) (hlk : meth.locks = false) {post : gG → Prop} (hR : gR K G H) (hS : va_S (gA K) s.heap H locs) (h1 : cells ≤ mc) (h2 : slots ≤ ms) (hdg : decode cc pc = .ok (.return_, 1)) (hp : post G) : W p l e R s m args below meth c H locs cells slots (MQ below (gQv K post) args s mc ms (gA K)) (F0 m pc ls []) :=
  W.widen h1 h2 (W.vret M.hx M.hb hr (fun t ht _ => ⟨⟨G, rfl, hp, by show gR K G t.heap; rw [ht]; exact hR⟩, hS.F ht⟩) hS.2.2 hdg hlk)
theorem g_qret {rt : FieldType} (M : gM K p s m args c cc nL own) (hr : meth.sig.returnType = some rt) (hrt : (∃ n, rt = .object n) ∨ ∃ t, rt = .array t) (hlk : meth.locks = false) {post : Option Nat → gG → Prop} {v : Value} (r : Option Nat) (hv : va_rf r = v) (hR : gR K G H) (hS : va_S (gA K) s.heap H locs) (h1 : cells ≤ mc) (h2 : slots ≤ ms) (hdg : decode cc pc = .ok (.areturn, 1)) (hp : post r G) : W p l e R s m args below meth c H locs cells slots (MQ below (gQq K post) args s mc ms (gA K)) (F0 m pc ls [v]) := by
  subst hv
  exact W.widen h1 h2 (W.aret M.hx M.hb hr hrt (va_rf_or r) (fun t ht _ => ⟨⟨r, G, rfl, hp, by show gR K G t.heap; rw [ht]; exact hR⟩, hS.F ht⟩) hS.2.2 hdg hlk)
/-- getstatic -/
theorem g_gets (M : gM K p s m args c cc nL own) (hS : va_S (gA K) s.heap H locs) {C' n d ref : String} {v : Value} {index : Nat} (hZ : va_Z C' n d v (gA K) s s.heap) (hlink : Cond.fieldLink own index ref n d ∈ lw_all) (hsame : ∀ x, s.fieldFound? C' n d = some x → s.fieldFound? ref n d = some x) (hdg : decode cc pc = .ok (.getstatic index, 3))
    (kk : W p l e R s m args below meth c H locs cells slots Q (F0 m (pc + 3) ls (v :: rest))) : W p l e R s m args below meth c H locs cells slots Q (F0 m pc ls rest) :=
  va_gets M.hx M.hb hZ hS M.hown (M.hts _ hlink) hsame hdg kk
/-- Object.<init> -/
theorem g_obj (M : gM K p s m args c cc nL own) (hsz : ls.size = nL) {x : Nat} (hlink : Cond.methodLink own index Lib.objectInit ∈ lw_all) (hinst : Cond.instanceMethod Lib.objectInit ∈ lw_all) (hcode : Cond.code Lib.objectInit ⟨#[0xb1]⟩ 1 none ∈ lw_all) (hdg : decode cc pc = .ok (.invokespecial index, 3)) (hframes : 1 ≤ R.frames) (hlocals : (rest.map fun v => v.category).sum + 12 ≤ R.locals)
    (kk : W p l e R s m args below meth c H locs cells slots Q (F0 m (pc + 3) ls rest)) : W p l e R s m args below meth c H locs cells slots Q (F0 m pc ls (.ref x :: rest)) :=
  W.objInit M.hx M.hb M.hown (M.hts _ hlink) (M.hts _ hinst) (M.hts _ hcode) rfl (by rw [M.1.2.2.1]; exact hsz) rfl hdg hframes (by show 2 * 0 + _ + 12 ≤ _; omega) kk
end GCall
