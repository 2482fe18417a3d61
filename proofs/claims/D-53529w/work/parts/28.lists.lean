/-! LISTS taken apart and shut over the ghost heap -/
def gOL (K : gK) (G : gG) (a : Nat) (m : Int32) (arr n cap : Nat) (f : Nat → Option Nat) : gG := oU (oU G arr (.inl (alA K cap f))) a (.inl (alF m arr n))
def gOa (K : gK) (G : gG) (a arr cap : Nat) : Prop := arr ≠ a ∧ (arr = kE K ∧ cap = 0 ∧ G (kE K) = some (.inl (alA K 0 (fun _ => none))) ∨ arr ≠ kE K ∧ G arr = none)
/-- a method's body, its class named as it may be: nothing is run in its place -/
theorem MetF_ofW {l : Launch} {y : MethodName} {ws ws' : List Cond} {rm : Room} {Pc : Array Value → State → Prop} {Qc : Array Value → State → Outcome → State → Prop} {mc ms : Nat} {free : Addr → Prop} {cc : ByteArray} {maxL : Nat} {ret : Option FieldType}
    (hy : plainFor y = true) (hw : ws = Cond.code y cc maxL ret :: ws')
    (body : ∀ p e s m args below meth c s₁, BodyLoose p l y (headSpec ws rm) cc maxL ret e s m args below meth c s₁ → c.maxLocals = maxL → Pc args s →
      W p l e (headSpec ws rm).room s m args below meth c s.heap [] 0 0 (MQ below Qc args s mc ms free) (entryFrame m args maxL)) : Met l y ws rm Pc Qc mc ms free := by
  refine MetFree.of_bodySF (code := cc) (maxLocals := maxL) (ret := ret) hy ?_ ?_
  · intro args s m h hn
    obtain ⟨meth, c, h1, h2, h3, h4, h5, h6, -, -⟩ := Cond.code_spec hn (atoms_spec (ws := ws) h _ (by rw [hw]; exact List.mem_cons_self))
    exact ⟨meth, c, h1, h2, h3, h4, h5, h6⟩
  · intro p e s m args below meth c s₁ B hml hP _
    have hh0 : s₁.heap = s.heap := by rw [B.state]; rfl
    obtain ⟨t, a1, o, b1, b2, b3⟩ := body p e s m args below meth c s₁ B hml hP s₁ hh0 (Stand.of_body B)
    exact ⟨t, o, a1, b1, b2, ⟨b3.1, b3.2⟩⟩
theorem g_metF {K : gK} {G : gG} {l : Launch} {cc : ByteArray} {nL : Nat} {y : MethodName} {ret : Option FieldType} {rm : Room} {av : List Value} {Qc : Array Value → State → Outcome → State → Prop} {mc ms : Nat} (hy : plainFor y = true) (hsl : (lg_sl av).length ≤ nL)
    (body : ∀ (p : Program) (e : Env) (s : State) (m : MethodId) (below : List Frame) (meth : Method) (c : Code), gM K p s m av.toArray c cc nL y.cls → meth.sig.returnType = ret → meth.locks = false → meth.name = y.name → gR K G s.heap → ∀ ls : Array Slot, lv_has ls nL (lv_args 0 av) → W p l e rm s m av.toArray below meth c s.heap [] 0 0 (MQ below Qc av.toArray s mc ms (gA K)) (F0 m 0 ls [])) :
    Met l y (ws_ y cc nL ret) rm (gPre K av G) Qc mc ms (gA K) := by
  refine MetF_ofW (cc := cc) (maxL := nL) (ret := ret) hy rfl ?_
  intro p e s m args below meth c s₁ B hml hv
  obtain ⟨rfl, hX, hR⟩ := hv
  have hts := atoms_spec (ws := ws_ y cc nL ret) B.pre
  have hl := lv_entry av (n := nL) hsl
  rw [lg_entry_eq]
  exact body p e s m below meth c ⟨⟨B.exec, B.bytes, hml, findClass_of_methodNamed B.named, fun w h => hts w (List.mem_cons_of_mem _ h)⟩, hX⟩ B.returns B.notSynchronized (name_of_methodNamed B.named B.method).1 hR _ hl
section GList
variable {p : Program} {l : Launch} {e : Env} {R : Room} {s : State} {m : MethodId} {args : Array Value} {below : List Frame} {meth : Method} {c : Code} {H : Heap} {locs : List Loc} {cells slots : Nat} {Q : State → Prop}
variable {cc : ByteArray} {pc nL : Nat} {ls : Array Slot} {rest : List Value} {K : gK} {G : gG} {own : String} {a : Nat}
theorem gR.opn (hR : gR K G H) {xs : List Nat} (ha : G a = some (.inr (.inl xs))) : ∃ (mo : Int32) (cap : Nat) (f : Nat → Option Nat) (arr : Nat), alOk xs cap f ∧ gOa K G a arr cap ∧ gR K (gOL K G a mo arr xs.length cap f) H := by
  have hE := hR.E
  obtain ⟨Rw, h1, h2⟩ := hR
  obtain ⟨mo, cap, f, arr, q1, q2, q3, q4⟩ := h2.openL ha
  exact ⟨mo, cap, f, arr, q1, ⟨q2, q3.elim (fun z => Or.inl ⟨z.1, z.2, hE⟩) Or.inr⟩, Rw, h1, q4⟩
theorem gOL_a {mo : Int32} {arr n cap : Nat} {f : Nat → Option Nat} : gOL K G a mo arr n cap f a = some (.inl (.inr (8, [.int mo, .ref arr, .int (nI n)]))) := oU_s
theorem gOL_arr {mo : Int32} {arr n cap : Nat} {f : Nat → Option Nat} (h : arr ≠ a) : gOL K G a mo arr n cap f arr = some (.inl (alA K cap f)) := (oU_n h).trans oU_s
theorem gOL_n {mo : Int32} {arr n cap b : Nat} {f : Nat → Option Nat} (h : b ≠ arr) (h2 : b ≠ a) : gOL K G a mo arr n cap f b = G b := (oU_n h2).trans (oU_n h)
/-- a list's entry changed, shut -/
theorem gR.shut {mo : Int32} {arr n cap : Nat} {f : Nat → Option Nat} {xs : List Nat} (hR : gR K (gOL K G a mo arr n cap f) H) (hn : n = xs.length) (hok : alOk xs cap f) (har : gOa K G a arr cap) : gR K (oU G a (.inr (.inl xs))) H := by
  have hE0 := hR.E
  obtain ⟨Rw, h1, h2⟩ := hR
  obtain ⟨hne, har⟩ := har
  rcases har with ⟨he, hc, hE⟩ | ⟨he, hG⟩
  · have hxs : xs = [] := List.eq_nil_of_length_eq_zero (by have := hok.1; omega)
    subst he; subst hc; subst hxs
    have h3 := h2.closeE gOL_a hn
    have e : oU (gOL K G a mo (kE K) n 0 f) a (.inr (.inl [])) = oU G a (.inr (.inl [])) := by
      funext b
      by_cases e1 : b = a
      · rw [e1, oU_s, oU_s]
      · rw [oU_n e1, oU_n e1]
        by_cases e2 : b = kE K
        · rw [e2, hE0, hE]
        · exact gOL_n e2 e1
    rw [e] at h3
    exact ⟨Rw, h1, h3⟩
  · have h3 := h2.closeN gOL_a (gOL_arr hne) he hn hok
    refine ⟨Rw, h1, ?_⟩
    have e : oU (oD (gOL K G a mo arr n cap f) arr) a (.inr (.inl xs)) = oU G a (.inr (.inl xs)) := by
      funext b
      by_cases e1 : b = a
      · rw [e1, oU_s, oU_s]
      · rw [oU_n e1, oU_n e1]
        by_cases e2 : b = arr
        · rw [e2, oD_s, hG]
        · rw [oD_n e2, gOL_n e2 e1]
    rw [e] at h3
    exact h3
/-- a list is in the heap, its class -/
theorem gR.recvO (M : gM K p s m args c cc nL own) {mo : Int32} {arr n cap : Nat} {f : Nat → Option Nat} (hR : gR K (gOL K G a mo arr n cap f) H) : ∃ cell : Cell, H[a]? = some cell ∧ cell.vm.isStatics = false ∧ s.vm.findClass "java/util/ArrayList" = some cell.cls := hR.recv M gOL_a (r := (RJ2, TJ2, 3)) rfl
theorem gOb.opn {v : Nat} (h : gOb G v) {mo : Int32} {arr n cap : Nat} {f : Nat → Option Nat} (har : gOa K G a arr cap) (hva : v = a ∨ v ≠ arr) : gOb (gOL K G a mo arr n cap f) v := by
  by_cases e1 : v = a
  · subst e1
    exact Or.inl ⟨8, _, by decide, by decide, gOL_a⟩
  · have e2 : v ≠ arr := by
      rcases hva with q | q
      · exact absurd q e1
      · exact q
    rcases h with ⟨ci, fs, h1, h3, h2⟩ | ⟨y, h2⟩
    · exact Or.inl ⟨ci, fs, h1, h3, (gOL_n e2 e1).trans h2⟩
    · exact Or.inr ⟨y, (gOL_n e2 e1).trans h2⟩
/-- an object isn't a list's array -/
theorem gOb.nar {v : Nat} (h : gOb G v) {arr cap : Nat} (har : gOa K G a arr cap) : v ≠ arr := by
  rintro rfl
  rcases har.2 with ⟨e, -, hE⟩ | ⟨-, hG⟩
  · rw [← e] at hE
    rcases h with ⟨ci, fs, -, -, h2⟩ | ⟨y, h2⟩
    · rw [hE] at h2; unfold alA at h2; cases h2
    · rw [hE] at h2; cases h2
  · rcases h with ⟨ci, fs, -, -, h2⟩ | ⟨y, h2⟩
    · rw [hG] at h2; cases h2
    · rw [hG] at h2; cases h2
end GList
/-- a virtual call by a superclass's name: what it asks -/
theorem lw_U {own : String} {idx : Nat} {C owner : String} {x y : MethodName} {b : ByteArray} {L : Nat} {r : Option FieldType} (h1 : Cond.methodLink own idx x ∈ lw_all) (h2 : Cond.sameMethod x.cls owner x.name x.desc ∈ lw_all) (h3 : Cond.selects C x y ∈ lw_all) (h4 : Cond.instanceMethod y ∈ lw_all) (h5 : Cond.initialized y.cls ∈ lw_all) (h6 : Cond.code y b L r ∈ lw_all) : GoodIn lw_all (va_wsU own idx C owner x y (ws_ y b L r)) := by
  refine lw_app ?_ (lw_meth h6)
  intro w hw
  simp only [List.mem_cons, List.not_mem_nil, or_false] at hw
  rcases hw with e | e | e | e | e
  · rw [e]; exact h1
  · rw [e]; exact h2
  · rw [e]; exact h3
  · rw [e]; exact h4
  · rw [e]; exact h5
theorem lw_O {own : String} {idx : Nat} {C owner : String} {x y : MethodName} {b : ByteArray} {L : Nat} {r : Option FieldType} (h1 : Cond.methodLink own idx x ∈ lw_all) (h2 : Cond.sameMethod x.cls owner x.name x.desc ∈ lw_all) (h2b : Cond.instanceMethod ⟨owner, x.name, x.desc⟩ ∈ lw_all) (h3 : Cond.selects C x y ∈ lw_all) (h4 : Cond.instanceMethod y ∈ lw_all) (h5 : Cond.initialized y.cls ∈ lw_all) (h6 : Cond.code y b L r ∈ lw_all) : GoodIn lw_all (va_wsO own idx C owner x y (ws_ y b L r)) := by
  refine lw_app ?_ (lw_meth h6)
  intro w hw
  simp only [List.mem_cons, List.not_mem_nil, or_false] at hw
  rcases hw with e | e | e | e | e | e
  · rw [e]; exact h1
  · rw [e]; exact h2
  · rw [e]; exact h2b
  · rw [e]; exact h3
  · rw [e]; exact h4
  · rw [e]; exact h5
/-- names called through an interface -/
theorem md_i_J2_add : gMd (gL "add" "(Ljava/lang/Object;)Z") 1 := by
  unfold gMd
  decide +kernel
theorem md_i_J2_size : gMd (gL "size" "()I") 0 := by
  unfold gMd
  decide +kernel
theorem md_i_J2_get : gMd (gL "get" "(I)Ljava/lang/Object;") 1 := by
  unfold gMd
  decide +kernel
theorem md_i_J2_remove : gMd (gL "remove" "(I)Ljava/lang/Object;") 1 := by
  unfold gMd
  decide +kernel
theorem md_i_J2_remove_2 : gMd (gL "remove" "(Ljava/lang/Object;)Z") 1 := by
  unfold gMd
  decide +kernel
theorem md_i_J2_indexOf : gMd (gL "indexOf" "(Ljava/lang/Object;)I") 1 := by
  unfold gMd
  decide +kernel
theorem md_i_J2_isEmpty : gMd (gL "isEmpty" "()Z") 0 := by
  unfold gMd
  decide +kernel
theorem md_i_J7_length : gMd (gCS "length" "()I") 0 := by
  unfold gMd
  decide +kernel
theorem md_i_J7_charAt : gMd (gCS "charAt" "(I)C") 1 := by
  unfold gMd
  decide +kernel
section GList2
variable {p : Program} {l : Launch} {e : Env} {R : Room} {s : State} {m : MethodId} {args : Array Value} {below : List Frame} {meth : Method} {c : Code} {H : Heap} {locs : List Loc} {cells slots : Nat} {Q : State → Prop}
variable {cc : ByteArray} {pc nL : Nat} {ls : Array Slot} {rest : List Value} {K : gK} {G : gG} {own : String} {a : Nat}
/-- an array of references is in the heap, its class -/
theorem gR.recvA (M : gM K p s m args c cc nL own) (hR : gR K G H) {n : Nat} {f : Nat → Option Nat} (ha : G a = some (.inl (alA K n f))) : ∃ cell : Cell, H[a]? = some cell ∧ cell.vm.isStatics = false ∧ s.vm.findClass "[Ljava/lang/Object;" = some cell.cls := by
  have h1 : H[a]? = some (vp_cell (kC K 4) (n, .inr (.inr (.inr (.inr f))))) := hR.raw ha
  obtain ⟨kA, comp, -, -, -, h2⟩ := (M.hK.2 4 (kC K 4, .object "java/lang/Object") rfl).2
  exact ⟨_, h1, rfl, h2⟩
/-- getClass of an array of references; its class as a constant -/
theorem g_getC (M : gM K p s m args c cc nL own) (hR : gR K G H) (hsz : ls.size = nL) {n : Nat} {f : Nat → Option Nat} (ha : G a = some (.inl (alA K n f))) {index : Nat} (hlink : (Cond.methodLink own index ⟨"java/lang/Object", "getClass", "()Ljava/lang/Class;"⟩) ∈ lw_all)
    (hframes : 1 ≤ R.frames) (hlocals : (rest.map fun v => v.category).sum + 14 ≤ R.locals) (hdg : decode cc pc = .ok (.invokevirtual index, 3))
    (k : W p l e R s m args below meth c H locs cells slots Q (F0 m (pc + 3) ls (.ref (kM K) :: rest))) : W p l e R s m args below meth c H locs cells slots Q (F0 m pc ls (.ref a :: rest)) :=
  va_getC M.hx M.hb (M.1.2.2.1.trans hsz.symm) M.hown (M.hts _ hlink) (va_Nw.use rfl (M.nw q1398 rfl)) (M.hts _ q1397) (M.hts _ q162) (M.hts _ q174) M.2.2.2.2.2.2.2.2.2.2.2.1 (hR.recvA M ha) hframes hlocals hdg k
end GList2
/-- shapes -/
theorem gOL_m {K : gK} {G : gG} {a arr n cap n' : Nat} {mo mo' : Int32} {f : Nat → Option Nat} : oU (gOL K G a mo arr n cap f) a (.inl (.inr (8, [.int mo', .ref arr, .int (nI n')]))) = gOL K G a mo' arr n' cap f := oU_uu
theorem gOL_w {K : gK} {G : gG} {a arr n cap cap' : Nat} {mo : Int32} {f f' : Nat → Option Nat} (h : arr ≠ a) : oU (gOL K G a mo arr n cap f) arr (.inl (alA K cap' f')) = gOL K G a mo arr n cap' f' := by
  unfold gOL
  rw [oU_comm h.symm, oU_uu]
/-- over a new array: the old one is forgotten -/
theorem gOL_new {K : gK} {G : gG} {H : Heap} {a arr n cap q cap' : Nat} {mo : Int32} {f f' : Nat → Option Nat} (har : gOa K G a arr cap) (hE : gOL K G a mo arr n cap f (kE K) = some (.inl (alA K 0 (fun _ => none)))) (hq : gOL K G a mo arr n cap f q = none)
    (hR : gR K (oU (oU (gOL K G a mo arr n cap f) q (.inl (alA K cap' f'))) a (.inl (.inr (8, [.int mo, .ref q, .int (nI n)])))) H) : gR K (gOL K G a mo q n cap' f') H ∧ gOa K G a q cap' ∧ G q = none := by
  have hqa : q ≠ a := fun z => by rw [z, gOL_a] at hq; cases hq
  have hqr : q ≠ arr := fun z => by rw [z, gOL_arr har.1] at hq; cases hq
  have hGq : G q = none := (gOL_n (K := K) (mo := mo) (n := n) (cap := cap) (f := f) hqr hqa).symm.trans hq
  have hqE : q ≠ kE K := fun z => by rw [z, hE] at hq; cases hq
  have haE : a ≠ kE K := fun z => by rw [← z, gOL_a] at hE; unfold alA at hE; cases hE
  refine ⟨?_, ⟨hqa, Or.inr ⟨hqE, hGq⟩⟩, hGq⟩
  rcases har.2 with ⟨e, -, hG⟩ | ⟨e, hG⟩
  · have h : oU (oU (gOL K G a mo arr n cap f) q (.inl (alA K cap' f'))) a (.inl (.inr (8, [.int mo, .ref q, .int (nI n)]))) = gOL K G a mo q n cap' f' := by
      funext b
      unfold gOL alF
      by_cases e1 : b = a
      · rw [e1, oU_s, oU_s]
      · rw [oU_n e1, oU_n e1]
        by_cases e2 : b = q
        · rw [e2, oU_s, oU_s]
        · rw [oU_n e2, oU_n e2]
          by_cases e3 : b = arr
          · have hE2 : gOL K G a mo arr n cap f b = some (.inl (alA K 0 (fun _ => none))) := (congrArg (gOL K G a mo arr n cap f) (e3.trans e)).trans hE
            have hG2 : G b = some (.inl (alA K 0 (fun _ => none))) := by rw [e3, e]; exact hG
            exact hE2.trans hG2.symm
          · exact gOL_n e3 e1
    rw [h] at hR
    exact hR
  · have ha9 : oU (oU (gOL K G a mo arr n cap f) q (.inl (alA K cap' f'))) a (.inl (.inr (8, [.int mo, .ref q, .int (nI n)]))) arr = some (.inl (alA K cap f)) := (oU_n har.1).trans ((oU_n hqr.symm).trans (gOL_arr har.1))
    have h2 := hR.drop ha9 e
    have h : oD (oU (oU (gOL K G a mo arr n cap f) q (.inl (alA K cap' f'))) a (.inl (.inr (8, [.int mo, .ref q, .int (nI n)])))) arr = gOL K G a mo q n cap' f' := by
      funext b
      by_cases e3 : b = arr
      · rw [e3, oD_s, gOL_n hqr.symm har.1, hG]
      · rw [oD_n e3]
        unfold gOL alF
        by_cases e1 : b = a
        · rw [e1, oU_s, oU_s]
        · rw [oU_n e1, oU_n e1]
          by_cases e2 : b = q
          · rw [e2, oU_s, oU_s]
          · rw [oU_n e2, oU_n e2]
            exact gOL_n e3 e1
    rw [h] at h2
    exact h2
/-- a list that is made -/
theorem gL_new {K : gK} {G : gG} {H : Heap} {a : Nat} (hR : gR K (oU G a (.inl (.inr (8, [.int 0, .ref (kE K), .int 0])))) H) (hE : G (kE K) = some (.inl (alA K 0 (fun _ => none)))) (hae : a ≠ kE K) : gR K (oU G a (.inr (.inl []))) H := by
  have h : oU G a (.inl (.inr (8, [.int 0, .ref (kE K), .int 0]))) = gOL K G a 0 (kE K) 0 0 (fun _ => none) := by
    unfold gOL alF
    rw [oU_same hE]
    rfl
  rw [h] at hR
  exact hR.shut rfl ⟨Nat.le_refl _, by omega, fun i h => absurd h (Nat.not_lt_zero _)⟩ ⟨hae.symm, Or.inl ⟨rfl, rfl, hE⟩⟩
theorem gOb_ne {G : gG} {v q : Nat} (h : gOb G v) (hq : G q = none) : v ≠ q := by
  rintro rfl
  rcases h with ⟨ci, fs, -, -, h2⟩ | ⟨y, h2⟩ <;> (rw [hq] at h2; cases h2)
theorem cpy0 {f g : Nat → Option Nat} {n i : Nat} (h : i < n) : va_cpy f g 0 0 n i = f i := by
  unfold va_cpy
  rw [if_pos ⟨Nat.zero_le _, by omega⟩, Nat.zero_add, Nat.sub_zero]
