/-! ORDERS and lists of them, asked from outside (rows printed by tools/p35.py) -/
section OCall
variable {p : Program} {l : Launch} {e : Env} {R : Room} {s : State} {m : MethodId} {args : Array Value} {below : List Frame} {meth : Method} {c : Code} {H : Heap} {locs : List Loc} {cells slots : Nat} {Q : State → Prop}
variable {cc : ByteArray} {pc nL : Nat} {ls : Array Slot} {rest : List Value} {K : gK} {G : gG} {own : String} {b o : Nat} {F E : Nat → Int32}

theorem o_hangs (M : gM K p s m args c cc nL own) (hR : gR K G H) (hS : va_S (gA K) s.heap H locs) (hb : G b = some (.inl (oE F E o))) {index : Nat} (hlink : (Cond.methodLink own index yX3_hangs) ∈ lw_all) (hsz : ls.size = nL) (hdg : decode cc pc = .ok (.invokevirtual index, 3)) (hfr : 1 ≤ R.frames) (hlo : 40 ≤ R.locals) (hf : cells + 0 ≤ R.cells ∧ slots + 0 ≤ R.slots) (hW : (rest.map fun v => v.category).sum ≤ 8)
    (kk : ∀ (H1 : Heap) (locs1 : List Loc), gR K G H1 → va_S (gA K) s.heap H1 locs1 → W p l e R s m args below meth c H1 locs1 cells slots Q (F0 m (pc + 3) ls (.int (bI (decide (E o = 0))) :: rest))) : W p l e R s m args below meth c H locs cells slots Q (F0 m pc ls (.ref b :: rest)) := by
  have hd : ("NailedOrders$Order" : String) ≠ "java/lang/invoke/MethodHandle" ∧ ("NailedOrders$Order" : String) ≠ "java/lang/invoke/VarHandle" ∧ (parseMethodDescriptor yX3_hangs.desc).map (fun d => d.parameters.length) = some 0 := ⟨by decide, by decide, md_X3_hangs.2.2⟩
  by_cases h5 : fo F o 2 = -5
  · have he := hb.trans (congrArg (fun z => some (Sum.inl z)) (oE_3 h5))
    refine g_ki (g_V (As := []) M hR hS (c_X3_hangs l K he) (lw_V hlink q498 q499 q76 q502) 0 md_X3_hangs rfl ⟨rfl, rfl⟩ ⟨Nat.le_trans (Nat.le_of_ble_eq_true rfl) hfr, Nat.le_trans (Nat.le_of_ble_eq_true rfl) hlo⟩ (hR.recv M he rfl) rfl hsz rfl (lv_room hW) hdg hf) hS (fun r G1 H1 locs1 hp hR hS => ?_)
    obtain ⟨rfl, e1⟩ := hp
    rw [e1] at hR
    exact kk H1 locs1 hR hS
  · have he := hb.trans (congrArg (fun z => some (Sum.inl z)) (oE_4 h5))
    refine g_ki (g_U (As := []) (C := RX4) (owner := RX3) (x := yX3_hangs) M hR hS (c_X3_hangs4 l K he) 0 (va_cwU 0 M.hts (lw_U hlink q500 q501 q498 q76 q502) rfl rfl rfl rfl hd ⟨Nat.le_trans (Nat.le_of_ble_eq_true rfl) hfr, Nat.le_trans (Nat.le_of_ble_eq_true rfl) hlo⟩) (hR.recv M he rfl) rfl hsz rfl (lv_room hW) hdg hf) hS (fun r G1 H1 locs1 hp hR hS => ?_)
    obtain ⟨rfl, e1⟩ := hp
    rw [e1] at hR
    exact kk H1 locs1 hR hS

theorem o_hundredths (M : gM K p s m args c cc nL own) (hR : gR K G H) (hS : va_S (gA K) s.heap H locs) (hb : G b = some (.inl (oE F E o))) (hB : fB (fSg F o) (16 * fU)) {index : Nat} (hlink : (Cond.methodLink own index yX3_hundredths) ∈ lw_all) (hsz : ls.size = nL) (hdg : decode cc pc = .ok (.invokevirtual index, 3)) (hfr : 1 ≤ R.frames) (hlo : 40 ≤ R.locals) (hf : cells + 0 ≤ R.cells ∧ slots + 0 ≤ R.slots) (hW : (rest.map fun v => v.category).sum ≤ 8)
    (kk : ∀ (H1 : Heap) (locs1 : List Loc), gR K G H1 → va_S (gA K) s.heap H1 locs1 → W p l e R s m args below meth c H1 locs1 cells slots Q (F0 m (pc + 3) ls (.int (FP.f2i (FP.fmul (fSg F o) 1120403456)) :: rest))) : W p l e R s m args below meth c H locs cells slots Q (F0 m pc ls (.ref b :: rest)) := by
  have hd : ("NailedOrders$Order" : String) ≠ "java/lang/invoke/MethodHandle" ∧ ("NailedOrders$Order" : String) ≠ "java/lang/invoke/VarHandle" ∧ (parseMethodDescriptor yX3_hundredths.desc).map (fun d => d.parameters.length) = some 0 := ⟨by decide, by decide, md_X3_hundredths.2.2⟩
  by_cases h5 : fo F o 2 = -5
  · have he := hb.trans (congrArg (fun z => some (Sum.inl z)) (oE_3 h5))
    refine g_ki (g_V (As := []) M hR hS (c_X3_hundredths l K he hB) (lw_V hlink q537 q538 q76 q541) 0 md_X3_hundredths rfl ⟨rfl, rfl⟩ ⟨Nat.le_trans (Nat.le_of_ble_eq_true rfl) hfr, Nat.le_trans (Nat.le_of_ble_eq_true rfl) hlo⟩ (hR.recv M he rfl) rfl hsz rfl (lv_room hW) hdg hf) hS (fun r G1 H1 locs1 hp hR hS => ?_)
    obtain ⟨rfl, e1⟩ := hp
    rw [e1] at hR
    exact kk H1 locs1 hR hS
  · have he := hb.trans (congrArg (fun z => some (Sum.inl z)) (oE_4 h5))
    refine g_ki (g_U (As := []) (C := RX4) (owner := RX3) (x := yX3_hundredths) M hR hS (c_X3_hundredths4 l K he hB) 0 (va_cwU 0 M.hts (lw_U hlink q539 q540 q537 q76 q541) rfl rfl rfl rfl hd ⟨Nat.le_trans (Nat.le_of_ble_eq_true rfl) hfr, Nat.le_trans (Nat.le_of_ble_eq_true rfl) hlo⟩) (hR.recv M he rfl) rfl hsz rfl (lv_room hW) hdg hf) hS (fun r G1 H1 locs1 hp hR hS => ?_)
    obtain ⟨rfl, e1⟩ := hp
    rw [e1] at hR
    exact kk H1 locs1 hR hS

theorem o_other (M : gM K p s m args c cc nL own) (hR : gR K G H) (hS : va_S (gA K) s.heap H locs) (hb : G b = some (.inl (oE F E o))) {index : Nat} (hlink : (Cond.methodLink own index yX3_other) ∈ lw_all) (hsz : ls.size = nL) (hdg : decode cc pc = .ok (.invokevirtual index, 3)) (hfr : 1 ≤ R.frames) (hlo : 40 ≤ R.locals) (hf : cells + 0 ≤ R.cells ∧ slots + 0 ≤ R.slots) (hW : (rest.map fun v => v.category).sum ≤ 8)
    (kk : ∀ (H1 : Heap) (locs1 : List Loc), gR K G H1 → va_S (gA K) s.heap H1 locs1 → W p l e R s m args below meth c H1 locs1 cells slots Q (F0 m (pc + 3) ls (.int (fo F o 2) :: rest))) : W p l e R s m args below meth c H locs cells slots Q (F0 m pc ls (.ref b :: rest)) := by
  have hd : ("NailedOrders$Order" : String) ≠ "java/lang/invoke/MethodHandle" ∧ ("NailedOrders$Order" : String) ≠ "java/lang/invoke/VarHandle" ∧ (parseMethodDescriptor yX3_other.desc).map (fun d => d.parameters.length) = some 0 := ⟨by decide, by decide, md_X3_other.2.2⟩
  by_cases h5 : fo F o 2 = -5
  · have he := hb.trans (congrArg (fun z => some (Sum.inl z)) (oE_3 h5))
    refine g_ki (g_V (As := []) M hR hS (c_X3_other l K) (lw_V hlink q915 q916 q76 q921) 0 md_X3_other rfl ⟨rfl, rfl⟩ ⟨Nat.le_trans (Nat.le_of_ble_eq_true rfl) hfr, Nat.le_trans (Nat.le_of_ble_eq_true rfl) hlo⟩ (hR.recv M he rfl) rfl hsz rfl (lv_room hW) hdg hf) hS (fun r G1 H1 locs1 hp hR hS => ?_)
    obtain ⟨rfl, e1⟩ := hp
    rw [e1] at hR
    have k2 := kk H1 locs1 hR hS
    rw [h5] at k2
    exact k2
  · have he := hb.trans (congrArg (fun z => some (Sum.inl z)) (oE_4 h5))
    refine g_ki (g_U (As := []) (C := RX4) (owner := RX3) (x := yX3_other) M hR hS (c_X4_other l K he) 0 (va_cwO 0 M.hts (lw_O hlink q917 q915 q918 q919 q77 q920) rfl rfl rfl q921 hd ⟨Nat.le_trans (Nat.le_of_ble_eq_true rfl) hfr, Nat.le_trans (Nat.le_of_ble_eq_true rfl) hlo⟩) (hR.recv M he rfl) rfl hsz rfl (lv_room hW) hdg hf) hS (fun r G1 H1 locs1 hp hR hS => ?_)
    obtain ⟨rfl, e1⟩ := hp
    rw [e1] at hR
    exact kk H1 locs1 hR hS

theorem o_factor (M : gM K p s m args c cc nL own) (hR : gR K G H) (hS : va_S (gA K) s.heap H locs) (hb : G b = some (.inl (oE F E o))) (h1 : fo F o 2 = -5 → fo F o 3 = 1065353216) {index : Nat} (hlink : (Cond.methodLink own index yX3_factor) ∈ lw_all) (hsz : ls.size = nL) (hdg : decode cc pc = .ok (.invokevirtual index, 3)) (hfr : 1 ≤ R.frames) (hlo : 40 ≤ R.locals) (hf : cells + 0 ≤ R.cells ∧ slots + 0 ≤ R.slots) (hW : (rest.map fun v => v.category).sum ≤ 8)
    (kk : ∀ (H1 : Heap) (locs1 : List Loc), gR K G H1 → va_S (gA K) s.heap H1 locs1 → W p l e R s m args below meth c H1 locs1 cells slots Q (F0 m (pc + 3) ls (.float (fFc F o) :: rest))) : W p l e R s m args below meth c H locs cells slots Q (F0 m pc ls (.ref b :: rest)) := by
  have hd : ("NailedOrders$Order" : String) ≠ "java/lang/invoke/MethodHandle" ∧ ("NailedOrders$Order" : String) ≠ "java/lang/invoke/VarHandle" ∧ (parseMethodDescriptor yX3_factor.desc).map (fun d => d.parameters.length) = some 0 := ⟨by decide, by decide, md_X3_factor.2.2⟩
  by_cases h5 : fo F o 2 = -5
  · have he := hb.trans (congrArg (fun z => some (Sum.inl z)) (oE_3 h5))
    refine g_kf (g_V (As := []) M hR hS (c_X3_factor l K) (lw_V hlink q926 q927 q76 q932) 0 md_X3_factor rfl ⟨rfl, rfl⟩ ⟨Nat.le_trans (Nat.le_of_ble_eq_true rfl) hfr, Nat.le_trans (Nat.le_of_ble_eq_true rfl) hlo⟩ (hR.recv M he rfl) rfl hsz rfl (lv_room hW) hdg hf) hS (fun r G1 H1 locs1 hp hR hS => ?_)
    obtain ⟨rfl, e1⟩ := hp
    rw [e1] at hR
    have k2 := kk H1 locs1 hR hS
    unfold fFc at k2
    rw [h1 h5] at k2
    exact k2
  · have he := hb.trans (congrArg (fun z => some (Sum.inl z)) (oE_4 h5))
    refine g_kf (g_U (As := []) (C := RX4) (owner := RX3) (x := yX3_factor) M hR hS (c_X4_factor l K he) 0 (va_cwO 0 M.hts (lw_O hlink q928 q926 q929 q930 q77 q931) rfl rfl rfl q932 hd ⟨Nat.le_trans (Nat.le_of_ble_eq_true rfl) hfr, Nat.le_trans (Nat.le_of_ble_eq_true rfl) hlo⟩) (hR.recv M he rfl) rfl hsz rfl (lv_room hW) hdg hf) hS (fun r G1 H1 locs1 hp hR hS => ?_)
    obtain ⟨rfl, e1⟩ := hp
    rw [e1] at hR
    exact kk H1 locs1 hR hS

theorem o_copy (M : gM K p s m args c cc nL own) (hR : gR K G H) (hS : va_S (gA K) s.heap H locs) (hb : G b = some (.inl (oE F E o))) {index : Nat} (hlink : (Cond.methodLink own index yX3_copy) ∈ lw_all) (hsz : ls.size = nL) (hdg : decode cc pc = .ok (.invokevirtual index, 3)) (hfr : 4 ≤ R.frames) (hlo : 132 ≤ R.locals) (hf : cells + 1 ≤ R.cells ∧ slots + 8 ≤ R.slots) (hW : (rest.map fun v => v.category).sum ≤ 8)
    (kk : ∀ (q : Nat) (H1 : Heap) (locs1 : List Loc), G q = none → gR K (oU G q (.inl (oE F E o))) H1 → va_S (gA K) s.heap H1 locs1 → W p l e R s m args below meth c H1 locs1 (cells + 1) (slots + 8) Q (F0 m (pc + 3) ls (.ref q :: rest))) : W p l e R s m args below meth c H locs cells slots Q (F0 m pc ls (.ref b :: rest)) := by
  have hd : ("NailedOrders$Order" : String) ≠ "java/lang/invoke/MethodHandle" ∧ ("NailedOrders$Order" : String) ≠ "java/lang/invoke/VarHandle" ∧ (parseMethodDescriptor yX3_copy.desc).map (fun d => d.parameters.length) = some 0 := ⟨by decide, by decide, md_X3_copy.2.2⟩
  by_cases h5 : fo F o 2 = -5
  · have he := hb.trans (congrArg (fun z => some (Sum.inl z)) (oE_3 h5))
    refine g_kq (g_V (As := []) M hR hS (c_X3_copy l K hb h5) (lw_V hlink q305 q306 q76 q373) 0 md_X3_copy rfl ⟨rfl, rfl⟩ ⟨Nat.le_trans (Nat.le_of_ble_eq_true rfl) hfr, Nat.le_trans (Nat.le_of_ble_eq_true rfl) hlo⟩ (hR.recv M he rfl) rfl hsz rfl (lv_room hW) hdg hf) hS (fun r G1 H1 locs1 hp hR hS => ?_)
    obtain ⟨q, rfl, hq, e1⟩ := hp
    rw [e1] at hR
    exact kk q H1 locs1 hq hR hS
  · have he := hb.trans (congrArg (fun z => some (Sum.inl z)) (oE_4 h5))
    refine g_kq (g_U (As := []) (C := RX4) (owner := RX3) (x := yX3_copy) M hR hS (c_X4_copy l K hb h5) 0 (va_cwO 0 M.hts (lw_O hlink q307 q305 q308 q309 q77 q310) rfl rfl rfl q373 hd ⟨Nat.le_trans (Nat.le_of_ble_eq_true rfl) hfr, Nat.le_trans (Nat.le_of_ble_eq_true rfl) hlo⟩) (hR.recv M he rfl) rfl hsz rfl (lv_room hW) hdg hf) hS (fun r G1 H1 locs1 hp hR hS => ?_)
    obtain ⟨q, rfl, hq, e1⟩ := hp
    rw [e1] at hR
    exact kk q H1 locs1 hq hR hS

theorem o_get0 (M : gM K p s m args c cc nL own) (hR : gR K G H) (hb : G b = some (.inl (oE F E o))) {index : Nat} (hlink : (Cond.fieldLink own index RX3 "number" "I") ∈ lw_all) (hdg : decode cc pc = .ok (.getfield index, 3))
    (kk : W p l e R s m args below meth c H locs cells slots Q (F0 m (pc + 3) ls (.int (nI o) :: rest))) : W p l e R s m args below meth c H locs cells slots Q (F0 m pc ls (.ref b :: rest)) := by
  by_cases h5 : fo F o 2 = -5
  · exact g_get (C := RX3) (T := TX3) (N := 6) M hR (hb.trans (congrArg (fun z => some (Sum.inl z)) (oE_3 h5))) rfl in_X3 0 (by decide) hlink (fun x h => h) rfl hdg kk
  · exact g_get (C := RX4) (T := TX4) (N := 8) M hR (hb.trans (congrArg (fun z => some (Sum.inl z)) (oE_4 h5))) rfl in_X4 0 (by decide) hlink (fun x h => h) rfl hdg kk

theorem o_get1 (M : gM K p s m args c cc nL own) (hR : gR K G H) (hb : G b = some (.inl (oE F E o))) {index : Nat} (hlink : (Cond.fieldLink own index RX3 "person" "I") ∈ lw_all) (hdg : decode cc pc = .ok (.getfield index, 3))
    (kk : W p l e R s m args below meth c H locs cells slots Q (F0 m (pc + 3) ls (.int (fo F o 0) :: rest))) : W p l e R s m args below meth c H locs cells slots Q (F0 m pc ls (.ref b :: rest)) := by
  by_cases h5 : fo F o 2 = -5
  · exact g_get (C := RX3) (T := TX3) (N := 6) M hR (hb.trans (congrArg (fun z => some (Sum.inl z)) (oE_3 h5))) rfl in_X3 1 (by decide) hlink (fun x h => h) rfl hdg kk
  · exact g_get (C := RX4) (T := TX4) (N := 8) M hR (hb.trans (congrArg (fun z => some (Sum.inl z)) (oE_4 h5))) rfl in_X4 1 (by decide) hlink (fun x h => h) rfl hdg kk

theorem o_get2 (M : gM K p s m args c cc nL own) (hR : gR K G H) (hb : G b = some (.inl (oE F E o))) {index : Nat} (hlink : (Cond.fieldLink own index RX3 "word" "I") ∈ lw_all) (hdg : decode cc pc = .ok (.getfield index, 3))
    (kk : W p l e R s m args below meth c H locs cells slots Q (F0 m (pc + 3) ls (.int (fo F o 1) :: rest))) : W p l e R s m args below meth c H locs cells slots Q (F0 m pc ls (.ref b :: rest)) := by
  by_cases h5 : fo F o 2 = -5
  · exact g_get (C := RX3) (T := TX3) (N := 6) M hR (hb.trans (congrArg (fun z => some (Sum.inl z)) (oE_3 h5))) rfl in_X3 2 (by decide) hlink (fun x h => h) rfl hdg kk
  · exact g_get (C := RX4) (T := TX4) (N := 8) M hR (hb.trans (congrArg (fun z => some (Sum.inl z)) (oE_4 h5))) rfl in_X4 2 (by decide) hlink (fun x h => h) rfl hdg kk

theorem o_get3 (M : gM K p s m args c cc nL own) (hR : gR K G H) (hb : G b = some (.inl (oE F E o))) {index : Nat} (hlink : (Cond.fieldLink own index RX3 "real" "F") ∈ lw_all) (hdg : decode cc pc = .ok (.getfield index, 3))
    (kk : W p l e R s m args below meth c H locs cells slots Q (F0 m (pc + 3) ls (.float (fNm F o) :: rest))) : W p l e R s m args below meth c H locs cells slots Q (F0 m pc ls (.ref b :: rest)) := by
  by_cases h5 : fo F o 2 = -5
  · exact g_get (C := RX3) (T := TX3) (N := 6) M hR (hb.trans (congrArg (fun z => some (Sum.inl z)) (oE_3 h5))) rfl in_X3 3 (by decide) hlink (fun x h => h) rfl hdg kk
  · exact g_get (C := RX4) (T := TX4) (N := 8) M hR (hb.trans (congrArg (fun z => some (Sum.inl z)) (oE_4 h5))) rfl in_X4 3 (by decide) hlink (fun x h => h) rfl hdg kk

theorem o_get4 (M : gM K p s m args c cc nL own) (hR : gR K G H) (hb : G b = some (.inl (oE F E o))) {index : Nat} (hlink : (Cond.fieldLink own index RX3 "strength" "F") ∈ lw_all) (hdg : decode cc pc = .ok (.getfield index, 3))
    (kk : W p l e R s m args below meth c H locs cells slots Q (F0 m (pc + 3) ls (.float (fSg F o) :: rest))) : W p l e R s m args below meth c H locs cells slots Q (F0 m pc ls (.ref b :: rest)) := by
  by_cases h5 : fo F o 2 = -5
  · exact g_get (C := RX3) (T := TX3) (N := 6) M hR (hb.trans (congrArg (fun z => some (Sum.inl z)) (oE_3 h5))) rfl in_X3 4 (by decide) hlink (fun x h => h) rfl hdg kk
  · exact g_get (C := RX4) (T := TX4) (N := 8) M hR (hb.trans (congrArg (fun z => some (Sum.inl z)) (oE_4 h5))) rfl in_X4 4 (by decide) hlink (fun x h => h) rfl hdg kk

theorem o_get5 (M : gM K p s m args c cc nL own) (hR : gR K G H) (hb : G b = some (.inl (oE F E o))) {index : Nat} (hlink : (Cond.fieldLink own index RX3 "fate" "I") ∈ lw_all) (hdg : decode cc pc = .ok (.getfield index, 3))
    (kk : W p l e R s m args below meth c H locs cells slots Q (F0 m (pc + 3) ls (.int (E o) :: rest))) : W p l e R s m args below meth c H locs cells slots Q (F0 m pc ls (.ref b :: rest)) := by
  by_cases h5 : fo F o 2 = -5
  · exact g_get (C := RX3) (T := TX3) (N := 6) M hR (hb.trans (congrArg (fun z => some (Sum.inl z)) (oE_3 h5))) rfl in_X3 5 (by decide) hlink (fun x h => h) rfl hdg kk
  · exact g_get (C := RX4) (T := TX4) (N := 8) M hR (hb.trans (congrArg (fun z => some (Sum.inl z)) (oE_4 h5))) rfl in_X4 5 (by decide) hlink (fun x h => h) rfl hdg kk

theorem o_put4 (M : gM K p s m args c cc nL own) (hR : gR K G H) (hS : va_S (gA K) s.heap H locs) (hb : G b = some (.inl (oE F E o))) {index : Nat} (hlink : (Cond.fieldLink own index RX3 "strength" "F") ∈ lw_all) {v9 : UInt32} {F' E' : Nat → Int32} (hk : ∀ k, k < 5 → fo F' o k = fo F o k) (h5v : fo F' o 5 = v9.toInt32) (hE : E' o = E o) (hdg : decode cc pc = .ok (.putfield index, 3))
    (kk : ∀ (H1 : Heap) (locs1 : List Loc), gR K (oU G b (.inl (oE F' E' o))) H1 → va_S (gA K) s.heap H1 locs1 → W p l e R s m args below meth c H1 locs1 cells slots Q (F0 m (pc + 3) ls rest)) : W p l e R s m args below meth c H locs cells slots Q (F0 m pc ls (.float v9 :: .ref b :: rest)) := by
  have e5 : fSg F' o = v9 := by unfold fSg; rw [h5v]; rfl
  have e0 := hk 0 (by decide)
  have e1 := hk 1 (by decide)
  have e2 := hk 2 (by decide)
  have e3 : fFc F' o = fFc F o := by unfold fFc; rw [hk 3 (by decide)]
  have e4 : fNm F' o = fNm F o := by unfold fNm; rw [hk 4 (by decide)]
  by_cases h5 : fo F o 2 = -5
  · refine g_put (C := RX3) (T := TX3) (N := 6) M hR hS (hb.trans (congrArg (fun z => some (Sum.inl z)) (oE_3 h5))) rfl in_X3 tyX3 tyX3_ok nmX3 4 (by decide) hlink (fun x h => h) rfl rfl rfl (Nat.le_of_ble_eq_true rfl) hdg (fun H1 locs1 r1 r2 => kk H1 locs1 ?_ r2)
    have e : oE F' E' o = .inr (3, (oL F E o).set 4 (.float v9)) := by
      rw [oE_3 (e2.trans h5)]
      unfold oL
      rw [e0, e1, e4, e5, hE]
      rfl
    rw [e]
    exact r1
  · refine g_put (C := RX4) (T := TX4) (N := 8) M hR hS (hb.trans (congrArg (fun z => some (Sum.inl z)) (oE_4 h5))) rfl in_X4 tyX4 tyX4_ok nmX4 4 (by decide) hlink (fun x h => h) rfl rfl rfl (Nat.le_of_ble_eq_true rfl) hdg (fun H1 locs1 r1 r2 => kk H1 locs1 ?_ r2)
    have e : oE F' E' o = .inr (4, (oL F E o ++ [Value.int (fo F o 2), Value.float (fFc F o)]).set 4 (.float v9)) := by
      rw [oE_4 (fun z => h5 (e2.symm.trans z))]
      unfold oL
      rw [e0, e1, e4, e5, hE, e2, e3]
      rfl
    rw [e]
    exact r1

theorem o_put5 (M : gM K p s m args c cc nL own) (hR : gR K G H) (hS : va_S (gA K) s.heap H locs) (hb : G b = some (.inl (oE F E o))) {index : Nat} (hlink : (Cond.fieldLink own index RX3 "fate" "I") ∈ lw_all) {v9 : Int32} {F' E' : Nat → Int32} (hk : ∀ k, k < 5 → fo F' o k = fo F o k) (h5v : fo F' o 5 = fo F o 5) (hE : E' o = v9) (hdg : decode cc pc = .ok (.putfield index, 3))
    (kk : ∀ (H1 : Heap) (locs1 : List Loc), gR K (oU G b (.inl (oE F' E' o))) H1 → va_S (gA K) s.heap H1 locs1 → W p l e R s m args below meth c H1 locs1 cells slots Q (F0 m (pc + 3) ls rest)) : W p l e R s m args below meth c H locs cells slots Q (F0 m pc ls (.int v9 :: .ref b :: rest)) := by
  have e5 : fSg F' o = fSg F o := by unfold fSg; rw [h5v]
  have e0 := hk 0 (by decide)
  have e1 := hk 1 (by decide)
  have e2 := hk 2 (by decide)
  have e3 : fFc F' o = fFc F o := by unfold fFc; rw [hk 3 (by decide)]
  have e4 : fNm F' o = fNm F o := by unfold fNm; rw [hk 4 (by decide)]
  by_cases h5 : fo F o 2 = -5
  · refine g_put (C := RX3) (T := TX3) (N := 6) M hR hS (hb.trans (congrArg (fun z => some (Sum.inl z)) (oE_3 h5))) rfl in_X3 tyX3 tyX3_ok nmX3 5 (by decide) hlink (fun x h => h) rfl rfl rfl (Nat.le_of_ble_eq_true rfl) hdg (fun H1 locs1 r1 r2 => kk H1 locs1 ?_ r2)
    have e : oE F' E' o = .inr (3, (oL F E o).set 5 (.int v9)) := by
      rw [oE_3 (e2.trans h5)]
      unfold oL
      rw [e0, e1, e4, e5, hE]
      rfl
    rw [e]
    exact r1
  · refine g_put (C := RX4) (T := TX4) (N := 8) M hR hS (hb.trans (congrArg (fun z => some (Sum.inl z)) (oE_4 h5))) rfl in_X4 tyX4 tyX4_ok nmX4 5 (by decide) hlink (fun x h => h) rfl rfl rfl (Nat.le_of_ble_eq_true rfl) hdg (fun H1 locs1 r1 r2 => kk H1 locs1 ?_ r2)
    have e : oE F' E' o = .inr (4, (oL F E o ++ [Value.int (fo F o 2), Value.float (fFc F o)]).set 5 (.int v9)) := by
      rw [oE_4 (fun z => h5 (e2.symm.trans z))]
      unfold oL
      rw [e0, e1, e4, e5, hE, e2, e3]
      rfl
    rw [e]
    exact r1

/-- casts -/
theorem o_cast (M : gM K p s m args c cc nL own) (hR : gR K G H) (hb : G b = some (.inl (oE F E o))) {index : Nat} (hlink : (Cond.classLink own index RX3) ∈ lw_all) (hdg : decode cc pc = .ok (.checkcast index, 3))
    (kk : W p l e R s m args below meth c H locs cells slots Q (F0 m (pc + 3) ls (.ref b :: rest))) : W p l e R s m args below meth c H locs cells slots Q (F0 m pc ls (.ref b :: rest)) := by
  by_cases h5 : fo F o 2 = -5
  · exact va_castE M.hx M.hb M.hown (M.hts _ hlink) (hR.recv M (hb.trans (congrArg (fun z => some (Sum.inl z)) (oE_3 h5))) (r := (RX3, TX3, 6)) rfl) hdg kk
  · exact va_castY M.hx M.hb M.hown (M.hts _ hlink) (M.nw q1384 rfl) (hR.recv M (hb.trans (congrArg (fun z => some (Sum.inl z)) (oE_4 h5))) (r := (RX4, TX4, 8)) rfl) hdg kk
theorem l_cast (M : gM K p s m args c cc nL own) (hR : gR K G H) {xs : List Nat} (hb : G b = some (.inr (.inl xs))) {index : Nat} (hlink : (Cond.classLink own index "java/util/List") ∈ lw_all) (hdg : decode cc pc = .ok (.checkcast index, 3))
    (kk : W p l e R s m args below meth c H locs cells slots Q (F0 m (pc + 3) ls (.ref b :: rest))) : W p l e R s m args below meth c H locs cells slots Q (F0 m pc ls (.ref b :: rest)) :=
  va_castY M.hx M.hb M.hown (M.hts _ hlink) (M.nw q130 rfl) (hR.recvL M hb) hdg kk
theorem s_cast (M : gM K p s m args c cc nL own) (hR : gR K G H) {fs : List Value} {ci : Nat} {r : vw_C} (hb : G b = some (.inl (.inr (ci, fs)))) (hc : gCl[ci]? = some r) {index : Nat} (hlink : (Cond.classLink own index r.1) ∈ lw_all) (hdg : decode cc pc = .ok (.checkcast index, 3))
    (kk : W p l e R s m args below meth c H locs cells slots Q (F0 m (pc + 3) ls (.ref b :: rest))) : W p l e R s m args below meth c H locs cells slots Q (F0 m pc ls (.ref b :: rest)) :=
  va_castE M.hx M.hb M.hown (M.hts _ hlink) (hR.recv M hb hc) hdg kk
end OCall

theorem c_getX (l : Launch) (K : gK) {G : gG} {lo N : Nat} {x : Nat → Nat} (hx : G lo = some (.inr (.inl ((List.range N).map x)))) (j : Nat) (hj : j < N) : Met l yJ2_get (ws_ yJ2_get cJ2_get 2 (Option.some (Jvm.ClassFile.FieldType.object "java/lang/Object"))) (gRm 3 0 0 103) (gPre K [.ref lo, .int (nI j)] G) (gQq K (fun r G1 => r = some (x j) ∧ G1 = G)) 0 0 (gA K) := by
  have h9 := c_J2_get l K hx j (by simpa using hj)
  rw [show ((List.range N).map x)[j]'(by simpa using hj) = x j by simp] at h9
  exact h9

theorem c_sizeX (l : Launch) (K : gK) {G : gG} {lo N : Nat} {x : Nat → Nat} (hx : G lo = some (.inr (.inl ((List.range N).map x))))  : Met l yJ2_size (ws_ yJ2_size cJ2_size 1 (Option.some Jvm.ClassFile.FieldType.int)) (gRm 0 0 0 0) (gPre K [.ref lo] G) (gQi K (fun r G1 => r = nI N ∧ G1 = G)) 0 0 (gA K) := by
  have h9 := c_J2_size l K hx
  rw [show ((List.range N).map x).length = N by simp] at h9
  exact h9

theorem c_getS (l : Launch) (K : gK) {G : gG} {lo : Nat} {L : List Nat} {x : Nat → Nat} (hx : G lo = some (.inr (.inl (L.map x)))) (j : Nat) (hj : j < L.length) : Met l yJ2_get (ws_ yJ2_get cJ2_get 2 (Option.some (Jvm.ClassFile.FieldType.object "java/lang/Object"))) (gRm 3 0 0 103) (gPre K [.ref lo, .int (nI j)] G) (gQq K (fun r G1 => r = some (x L[j]) ∧ G1 = G)) 0 0 (gA K) := by
  have h9 := c_J2_get l K hx j (by simpa using hj)
  rw [show (L.map x)[j]'(by simpa using hj) = x L[j] by simp] at h9
  exact h9

theorem c_sizeS (l : Launch) (K : gK) {G : gG} {lo : Nat} {L : List Nat} {x : Nat → Nat} (hx : G lo = some (.inr (.inl (L.map x))))  : Met l yJ2_size (ws_ yJ2_size cJ2_size 1 (Option.some Jvm.ClassFile.FieldType.int)) (gRm 0 0 0 0) (gPre K [.ref lo] G) (gQi K (fun r G1 => r = nI L.length ∧ G1 = G)) 0 0 (gA K) := by
  have h9 := c_J2_size l K hx
  rw [List.length_map] at h9
  exact h9
