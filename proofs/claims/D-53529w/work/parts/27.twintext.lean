/-! THE REFERENCE: texts (rows printed by tools/p27.py) -/
theorem md_X2_look : gMd yX2_look 0 := by
  unfold gMd
  decide +kernel
set_option maxHeartbeats 4000000 in
set_option maxRecDepth 100000 in
theorem c_X2_look (l : Launch) (K : gK) {G0 : gG} {A : Nat → Nat} {V : tV} {cs : List Nat} {ps : Nat ⊕ Nat} (hA : tInj A) (ht : pTx V cs) (hst : pSt V cs ps)  : Met l yX2_look (ws_ yX2_look cX2_look 1 (Option.some Jvm.ClassFile.FieldType.int)) (gRm 0 0 0 0) (gPre K [.ref (A 0)] (tG K G0 A V)) (gQi K (fun r G1 => r = pC cs (pPl ps) ∧ G1 = tG K G0 A V)) 0 0 (gA K) := by
  refine g_met (by decide) (Nat.le_of_ble_eq_true rfl) ?_
  intro p e s m below meth c M hr hlk hnm hR ls hl
  have M : gM K p s m _ c cX2_look 1 RX2 := M
  have hx := M.hx
  have hb := M.hb
  have hS : va_S (gA K) s.heap s.heap [] := va_S.rf
  have hl : lv_has ls 1 [(0, .ref (A 0))] := hl
  have h60 := ht.2.1
  have hple := hst.2.2
  refine lv_aload_n hx hb dX2_look_0 rfl (lv_at hl 0 rfl) ?_
  refine t_getE M hA hR 11 (by decide) (hst.1) q1050 rfl dX2_look_1 ?_
  refine lv_aload_n hx hb dX2_look_4 rfl (lv_at hl 0 rfl) ?_
  refine t_getE M hA hR 8 (by decide) (ht.1) q1047 rfl dX2_look_5 ?_
  refine lv_icmp_ge (tgt := 23) hx hb dX2_look_8 (by decide) (fun c8 => ?_) (fun c8 => ?_)
  · have hge : cs.length ≤ pPl ps := (nI_leI (by omega) (by omega)).mp c8
    refine lv_iconst (v := ((-1) : Int32)) hx hb dX2_look_23 (by decide) ?_
    exact g_iret M hr hlk hR hS (by omega) (by omega) dX2_look_24 (⟨(pC_n hge).symm, rfl⟩)
  · have hlt : pPl ps < cs.length := lt_of_not c8 (by omega)
    refine lv_aload_n hx hb dX2_look_11 rfl (lv_at hl 0 rfl) ?_
    refine t_get M hA hR 7 (by decide) q1046 rfl rfl dX2_look_12 ?_
    refine lv_aload_n hx hb dX2_look_15 rfl (lv_at hl 0 rfl) ?_
    refine t_getE M hA hR 11 (by decide) (hst.1) q1050 rfl dX2_look_16 ?_
    refine t_aldE M hA (ht.2.2 (pPl ps) hlt) hR (by decide) rfl (by show pPl ps < 60; omega) dX2_look_19 ?_
    refine lv_goto (tgt := 24) hx hb dX2_look_20 (by decide) ?_
    exact g_iret M hr hlk hR hS (by omega) (by omega) dX2_look_24 (⟨(pC_s hlt).symm, rfl⟩)

theorem md_X2_must : gMd yX2_must 1 := by
  unfold gMd
  decide +kernel
set_option maxHeartbeats 4000000 in
set_option maxRecDepth 100000 in
theorem c_X2_must (l : Launch) (K : gK) {G0 : gG} {A : Nat → Nat} {V : tV} {cs : List Nat} {ps : Nat ⊕ Nat} (hA : tInj A) (ht : pTx V cs) (hst : pSt V cs ps) (b : Bool) (hb1 : ∀ a, ps = .inr a → b = true → a < cs.length) : Met l yX2_must (ws_ yX2_must cX2_must 2 (Option.none : Option Jvm.ClassFile.FieldType)) (gRm 0 0 0 0) (gPre K [.ref (A 0), .int (bI b)] (tG K G0 A V)) (gQv K (fun G1 => ∃ V1, G1 = tG K G0 A V1 ∧ tQ [11, 12] V V1 ∧ pSt V1 cs (pMu b ps))) 0 0 (gA K) := by
  refine g_met (by decide) (Nat.le_of_ble_eq_true rfl) ?_
  intro p e s m below meth c M hr hlk hnm hR ls hl
  have M : gM K p s m _ c cX2_must 2 RX2 := M
  have hx := M.hx
  have hb := M.hb
  have hS : va_S (gA K) s.heap s.heap [] := va_S.rf
  have hl : lv_has ls 2 [(0, .ref (A 0)), (1, .int (bI b))] := hl
  refine lv_aload_n hx hb dX2_must_0 rfl (lv_at hl 0 rfl) ?_
  refine lv_aload_n hx hb dX2_must_1 rfl (lv_at hl 0 rfl) ?_
  refine t_getE M hA hR 12 (by decide) (hst.2.1) q1051 rfl dX2_must_2 ?_
  refine lv_if_ne (tgt := 12) hx hb dX2_must_5 (by decide) (fun c5 => ?_) (fun c5 => ?_)
  · obtain ⟨p9, rfl⟩ := pWr_t (bI_n0.mp c5)
    refine lv_iconst (v := (1 : Int32)) hx hb dX2_must_12 (by decide) ?_
    refine lv_goto (tgt := 17) hx hb dX2_must_13 (by decide) ?_
    refine t_putQ M hA hR hS 12 (by decide) q1051 ⟨rfl, rfl⟩ (by first | exact bI_nar _ | decide) (by first | exact bI_fit _ | decide) dX2_must_17 (fun V17 H locs hq17 hw17 hz17 hR hS => ?_)
    refine lv_aload_n hx hb dX2_must_20 rfl (lv_at hl 0 rfl) ?_
    refine lv_dup hx hb dX2_must_21 rfl ?_
    refine t_getE M hA hR 11 (by decide) ((hq17.fld (by decide)).trans hst.1) q1050 rfl dX2_must_22 ?_
    refine lv_aload_n hx hb dX2_must_25 rfl (lv_at hl 0 rfl) ?_
    refine t_getE M hA hR 12 (by decide) (hw17) q1051 rfl dX2_must_26 ?_
    refine lv_if_eq (tgt := 36) hx hb dX2_must_29 (by decide) (fun c29 => absurd c29 (by decide)) (fun c29 => ?_)
    refine lv_iconst (v := (0 : Int32)) hx hb dX2_must_32 (by decide) ?_
    refine lv_goto (tgt := 37) hx hb dX2_must_33 (by decide) ?_
    refine lv_iadd hx hb dX2_must_37 ?_
    refine g_topi (nI (p9)) (Int32.add_zero _) ?_
    refine t_putQ M hA hR hS 11 (by decide) q1050 ⟨rfl, rfl⟩ rfl rfl dX2_must_38 (fun V38 H locs hq38 hw38 hz38 hR hS => ?_)
    exact g_vret M hr hlk hR hS (by omega) (by omega) dX2_must_41 (⟨_, rfl, (tQ.trans (tQ.trans tQ.rf hq17 (by decide)) hq38 (by decide)), hw38, (hq38.fld (by decide)).trans hw17, hst.2.2⟩)
  · obtain ⟨a9, rfl⟩ := pWr_f (bI_0.mp c5)
    refine lv_iload_n hx hb dX2_must_8 rfl (lv_at hl 1 rfl) ?_
    refine lv_if_ne (tgt := 16) hx hb dX2_must_9 (by decide) (fun c9 => ?_) (fun c9 => ?_)
    · have hbt := bI_n0.mp c9
      subst hbt
      refine lv_iconst (v := (0 : Int32)) hx hb dX2_must_16 (by decide) ?_
      refine t_putQ M hA hR hS 12 (by decide) q1051 ⟨rfl, rfl⟩ (by first | exact bI_nar _ | decide) (by first | exact bI_fit _ | decide) dX2_must_17 (fun V17 H locs hq17 hw17 hz17 hR hS => ?_)
      refine lv_aload_n hx hb dX2_must_20 rfl (lv_at hl 0 rfl) ?_
      refine lv_dup hx hb dX2_must_21 rfl ?_
      refine t_getE M hA hR 11 (by decide) ((hq17.fld (by decide)).trans hst.1) q1050 rfl dX2_must_22 ?_
      refine lv_aload_n hx hb dX2_must_25 rfl (lv_at hl 0 rfl) ?_
      refine t_getE M hA hR 12 (by decide) (hw17) q1051 rfl dX2_must_26 ?_
      refine lv_if_eq (tgt := 36) hx hb dX2_must_29 (by decide) (fun c29 => ?_) (fun c29 => absurd c29 (not_not_intro rfl))
      refine lv_iconst (v := (1 : Int32)) hx hb dX2_must_36 (by decide) ?_
      refine lv_iadd hx hb dX2_must_37 ?_
      refine g_topi (nI (a9 + 1)) (nI_1 a9) ?_
      refine t_putQ M hA hR hS 11 (by decide) q1050 ⟨rfl, rfl⟩ rfl rfl dX2_must_38 (fun V38 H locs hq38 hw38 hz38 hR hS => ?_)
      exact g_vret M hr hlk hR hS (by omega) (by omega) dX2_must_41 (⟨_, rfl, (tQ.trans (tQ.trans tQ.rf hq17 (by decide)) hq38 (by decide)), hw38, (hq38.fld (by decide)).trans hw17, hb1 a9 rfl rfl⟩)
    · have hbf := bI_0.mp c9
      subst hbf
      refine lv_iconst (v := (1 : Int32)) hx hb dX2_must_12 (by decide) ?_
      refine lv_goto (tgt := 17) hx hb dX2_must_13 (by decide) ?_
      refine t_putQ M hA hR hS 12 (by decide) q1051 ⟨rfl, rfl⟩ (by first | exact bI_nar _ | decide) (by first | exact bI_fit _ | decide) dX2_must_17 (fun V17 H locs hq17 hw17 hz17 hR hS => ?_)
      refine lv_aload_n hx hb dX2_must_20 rfl (lv_at hl 0 rfl) ?_
      refine lv_dup hx hb dX2_must_21 rfl ?_
      refine t_getE M hA hR 11 (by decide) ((hq17.fld (by decide)).trans hst.1) q1050 rfl dX2_must_22 ?_
      refine lv_aload_n hx hb dX2_must_25 rfl (lv_at hl 0 rfl) ?_
      refine t_getE M hA hR 12 (by decide) (hw17) q1051 rfl dX2_must_26 ?_
      refine lv_if_eq (tgt := 36) hx hb dX2_must_29 (by decide) (fun c29 => absurd c29 (by decide)) (fun c29 => ?_)
      refine lv_iconst (v := (0 : Int32)) hx hb dX2_must_32 (by decide) ?_
      refine lv_goto (tgt := 37) hx hb dX2_must_33 (by decide) ?_
      refine lv_iadd hx hb dX2_must_37 ?_
      refine g_topi (nI (a9)) (Int32.add_zero _) ?_
      refine t_putQ M hA hR hS 11 (by decide) q1050 ⟨rfl, rfl⟩ rfl rfl dX2_must_38 (fun V38 H locs hq38 hw38 hz38 hR hS => ?_)
      exact g_vret M hr hlk hR hS (by omega) (by omega) dX2_must_41 (⟨_, rfl, (tQ.trans (tQ.trans tQ.rf hq17 (by decide)) hq38 (by decide)), hw38, (hq38.fld (by decide)).trans hw17, hst.2.2⟩)

theorem md_X2_digits : gMd yX2_digits 1 := by
  unfold gMd
  decide +kernel
set_option maxHeartbeats 4000000 in
set_option maxRecDepth 100000 in
theorem c_X2_digits (l : Launch) (K : gK) {G0 : gG} {A : Nat → Nat} {V : tV} {cs : List Nat} {ps : Nat ⊕ Nat} (hA : tInj A) (ht : pTx V cs) (hst : pSt V cs ps) {m9 : Nat} (hm : 1 ≤ m9) (hm9 : m9 < 100) : Met l yX2_digits (ws_ yX2_digits cX2_digits 4 (Option.some Jvm.ClassFile.FieldType.int)) (gRm 1 0 0 22) (gPre K [.ref (A 0), .int (nI m9)] (tG K G0 A V)) (gQi K (fun r G1 => ∃ V1, G1 = tG K G0 A V1 ∧ tQ [11, 12] V V1 ∧ pSt V1 cs (pPo (pGo (pDs cs m9) ps)) ∧ ∀ v, pVa (pGo (pDs cs m9) ps) = some v → r = v)) 0 0 (gA K) := by
  refine g_met (by decide) (Nat.le_of_ble_eq_true rfl) ?_
  intro p e s m below meth c M hr hlk hnm hR ls hl
  have M : gM K p s m _ c cX2_digits 4 RX2 := M
  have hx := M.hx
  have hb := M.hb
  have hS : va_S (gA K) s.heap s.heap [] := va_S.rf
  have hl : lv_has ls 4 [(0, .ref (A 0)), (1, .int (nI m9))] := hl
  refine lv_aload_n hx hb dX2_digits_0 rfl (lv_at hl 0 rfl) ?_
  refine g_ki (g_V (As := []) M hR hS (c_X2_look l K hA ht hst) (lw_V q1226 q1228 qs38 q73 q1229) 0 md_X2_look rfl ⟨rfl, rfl⟩ ⟨Nat.le_of_ble_eq_true rfl, Nat.le_of_ble_eq_true rfl⟩ (hR.recv M (tG_0 hA) rfl) rfl hl.1 rfl (lv_room (Nat.le_of_ble_eq_true rfl)) dX2_digits_1 ⟨(by first | exact Nat.le_refl _ | exact Nat.zero_le _ | (dsimp only; omega)), (by first | exact Nat.le_refl _ | exact Nat.zero_le _ | (dsimp only; omega))⟩) hS (fun r1 G1 H locs hp1 hR hS => ?_)
  obtain ⟨rfl, rfl⟩ := hp1
  refine lv_bipush (v := (48 : Int32)) hx hb dX2_digits_4 (by decide) ?_
  refine lv_isub hx hb dX2_digits_6 ?_
  refine lv_istore_n (lv' := [(2, _), (0, _), (1, _)]) hx hb dX2_digits_7 rfl hl (by decide) rfl (fun ls hl => ?_)
  refine lv_aload_n hx hb dX2_digits_8 rfl (lv_at hl 1 rfl) ?_
  refine lv_aload_n hx hb dX2_digits_9 rfl (lv_at hl 1 rfl) ?_
  refine g_ki (g_V (As := []) M hR hS (c_X2_look l K hA ht hst) (lw_V q1226 q1228 qs38 q73 q1229) 0 md_X2_look rfl ⟨rfl, rfl⟩ ⟨Nat.le_of_ble_eq_true rfl, Nat.le_of_ble_eq_true rfl⟩ (hR.recv M (tG_0 hA) rfl) rfl hl.1 rfl (lv_room (Nat.le_of_ble_eq_true rfl)) dX2_digits_10 ⟨(by first | exact Nat.le_refl _ | exact Nat.zero_le _ | (dsimp only; omega)), (by first | exact Nat.le_refl _ | exact Nat.zero_le _ | (dsimp only; omega))⟩) hS (fun r10 G10 H locs hp10 hR hS => ?_)
  obtain ⟨rfl, rfl⟩ := hp10
  refine lv_bipush (v := (48 : Int32)) hx hb dX2_digits_13 (by decide) ?_
  refine lv_bipush (v := (57 : Int32)) hx hb dX2_digits_15 (by decide) ?_
  refine g_ki (g_S (As := [_, _, _]) M hR hS (c_X2_in l K _ _ _) (lw_S q1098 q1099 q73 q1100) 3 md_X2_in ⟨rfl, rfl⟩ ⟨Nat.le_of_ble_eq_true rfl, Nat.le_of_ble_eq_true rfl⟩ rfl hl.1 rfl (lv_room (Nat.le_of_ble_eq_true rfl)) dX2_digits_17 ⟨(by first | exact Nat.le_refl _ | exact Nat.zero_le _ | (dsimp only; omega)), (by first | exact Nat.le_refl _ | exact Nat.zero_le _ | (dsimp only; omega))⟩) hS (fun r17 G17 H locs hp17 hR hS => ?_)
  obtain ⟨rfl, e0⟩ := hp17
  rw [e0] at hR
  refine g_kv (g_V (As := [_]) M hR hS (c_X2_must l K hA ht hst (pDi cs (pPl ps)) (fun a h1 h2 => by rw [h1] at h2; exact pDi_lt h2)) (lw_V q1230 q1232 qs39 q73 q1233) 1 md_X2_must rfl ⟨rfl, rfl⟩ ⟨Nat.le_of_ble_eq_true rfl, Nat.le_of_ble_eq_true rfl⟩ (hR.recv M (tG_0 hA) rfl) rfl hl.1 rfl (lv_room (Nat.le_of_ble_eq_true rfl)) dX2_digits_20 ⟨(by first | exact Nat.le_refl _ | exact Nat.zero_le _ | (dsimp only; omega)), (by first | exact Nat.le_refl _ | exact Nat.zero_le _ | (dsimp only; omega))⟩) hS (fun G20 H locs hp20 hR hS => ?_)
  obtain ⟨V20, rfl, hs20, hst⟩ := hp20
  have ht := ht.to hs20 (by decide) (by decide)
  refine lv_iconst (v := (1 : Int32)) hx hb dX2_digits_23 (by decide) ?_
  refine lv_istore_n (lv' := [(3, _), (2, _), (0, _), (1, _)]) hx hb dX2_digits_24 rfl hl (by decide) rfl (fun ls hl => ?_)
  refine g_loop (pc := 25) (fun (k : Nat) (ls : Array Slot) (G : gG) (cells slots : Nat) => ∃ j v ps1 V1, lv_has ls 4 [(3, .int (nI j)), (2, .int v), (1, .int (nI m9)), (0, .ref (A 0))] ∧ 1 ≤ j ∧ j ≤ m9 ∧ k = m9 - j ∧ tQ [11, 12] V V1 ∧ pSt V1 cs ps1 ∧ pTx V1 cs ∧ pGo (pDs cs m9) ps = pFin cs (m9 - j) v ps1 ∧ G = tG K G0 A V1 ∧ cells = 0 ∧ slots = 0) ?_ (m9 - 1) ⟨1, _, _, _, lv_sub hl [0, 1, 3, 2] rfl, Nat.le_refl _, hm, rfl, (tQ.trans tQ.rf hs20 (by decide)), hst, ht, pDs_0, rfl, rfl, rfl⟩ hR hS
  intro k ls G H locs cells slots hI hR hS ih25
  obtain ⟨j, v, ps1, V1, hl, hj1, hj, rfl, hs, hst, ht, he, rfl, rfl, rfl⟩ := hI
  refine lv_iload_n hx hb dX2_digits_25 rfl (lv_at hl 0 rfl) ?_
  refine lv_iload_n hx hb dX2_digits_26 rfl (lv_at hl 2 rfl) ?_
  refine lv_icmp_ge (tgt := 84) hx hb dX2_digits_27 (by decide) (fun c27 => ?_) (fun c27 => ?_)
  · have hx9 : pFin cs (m9 - j) v ps1 = pLast v ps1 := by rw [show m9 - j = 0 by have := eq_of_ge c27 hj (by omega); omega]; exact pFin_0
    refine lv_iload_n hx hb dX2_digits_84 rfl (lv_at hl 1 rfl) ?_
    exact g_iret M hr hlk hR hS (by omega) (by omega) dX2_digits_85 (⟨_, rfl, (tQ.trans tQ.rf hs (by decide)), by rw [he, hx9, pPo_last]; exact hst, fun v9 h9 => by rw [he, hx9] at h9; exact pVa_last h9⟩)
  · have hjm : j < m9 := lt_of_not c27 (by omega)
    refine lv_aload_n hx hb dX2_digits_30 rfl (lv_at hl 3 rfl) ?_
    refine t_getE M hA hR 12 (by decide) (hst.2.1) q1051 rfl dX2_digits_31 ?_
    refine lv_if_ne (tgt := 84) hx hb dX2_digits_34 (by decide) (fun c34 => ?_) (fun c34 => ?_)
    · have hx9 : pFin cs (m9 - j) v ps1 = pLast v ps1 := pFin_w (bI_n0.mp c34)
      refine lv_iload_n hx hb dX2_digits_84 rfl (lv_at hl 1 rfl) ?_
      exact g_iret M hr hlk hR hS (by omega) (by omega) dX2_digits_85 (⟨_, rfl, (tQ.trans tQ.rf hs (by decide)), by rw [he, hx9, pPo_last]; exact hst, fun v9 h9 => by rw [he, hx9] at h9; exact pVa_last h9⟩)
    · refine lv_iload_n hx hb dX2_digits_37 rfl (lv_at hl 1 rfl) ?_
      refine lv_if_le (tgt := 84) hx hb dX2_digits_38 (by decide) (fun c38 => ?_) (fun c38 => ?_)
      · have hx9 : pFin cs (m9 - j) v ps1 = pLast v ps1 := pFin_s (fun z => absurd z.1 (Int32.not_lt.mpr c38))
        refine lv_iload_n hx hb dX2_digits_84 rfl (lv_at hl 1 rfl) ?_
        exact g_iret M hr hlk hR hS (by omega) (by omega) dX2_digits_85 (⟨_, rfl, (tQ.trans tQ.rf hs (by decide)), by rw [he, hx9, pPo_last]; exact hst, fun v9 h9 => by rw [he, hx9] at h9; exact pVa_last h9⟩)
      · refine lv_aload_n hx hb dX2_digits_41 rfl (lv_at hl 3 rfl) ?_
        refine g_ki (g_V (As := []) M hR hS (c_X2_look l K hA ht hst) (lw_V q1226 q1228 qs38 q73 q1229) 0 md_X2_look rfl ⟨rfl, rfl⟩ ⟨Nat.le_of_ble_eq_true rfl, Nat.le_of_ble_eq_true rfl⟩ (hR.recv M (tG_0 hA) rfl) rfl hl.1 rfl (lv_room (Nat.le_of_ble_eq_true rfl)) dX2_digits_42 ⟨(by first | exact Nat.le_refl _ | exact Nat.zero_le _ | (dsimp only; omega)), (by first | exact Nat.le_refl _ | exact Nat.zero_le _ | (dsimp only; omega))⟩) hS (fun r42 G42 H locs hp42 hR hS => ?_)
        obtain ⟨rfl, rfl⟩ := hp42
        refine lv_bipush (v := (48 : Int32)) hx hb dX2_digits_45 (by decide) ?_
        refine lv_bipush (v := (57 : Int32)) hx hb dX2_digits_47 (by decide) ?_
        refine g_ki (g_S (As := [_, _, _]) M hR hS (c_X2_in l K _ _ _) (lw_S q1098 q1099 q73 q1100) 3 md_X2_in ⟨rfl, rfl⟩ ⟨Nat.le_of_ble_eq_true rfl, Nat.le_of_ble_eq_true rfl⟩ rfl hl.1 rfl (lv_room (Nat.le_of_ble_eq_true rfl)) dX2_digits_49 ⟨(by first | exact Nat.le_refl _ | exact Nat.zero_le _ | (dsimp only; omega)), (by first | exact Nat.le_refl _ | exact Nat.zero_le _ | (dsimp only; omega))⟩) hS (fun r49 G49 H locs hp49 hR hS => ?_)
        obtain ⟨rfl, e0⟩ := hp49
        rw [e0] at hR
        refine lv_if_eq (tgt := 84) hx hb dX2_digits_52 (by decide) (fun c52 => ?_) (fun c52 => ?_)
        · have hx9 : pFin cs (m9 - j) v ps1 = pLast v ps1 := pFin_s (fun z => by have h0 : pDi cs (pPl ps1) = false := bI_0.mp c52; rw [h0] at z; exact absurd z.2 (by decide))
          refine lv_iload_n hx hb dX2_digits_84 rfl (lv_at hl 1 rfl) ?_
          exact g_iret M hr hlk hR hS (by omega) (by omega) dX2_digits_85 (⟨_, rfl, (tQ.trans tQ.rf hs (by decide)), by rw [he, hx9, pPo_last]; exact hst, fun v9 h9 => by rw [he, hx9] at h9; exact pVa_last h9⟩)
        · obtain ⟨a9, rfl⟩ := pWr_f (bI_0.mp c34)
          have hdi : pDi cs a9 = true := bI_n0.mp c52
          have he := he.trans ((by rw [show m9 - j = (m9 - (j + 1)) + 1 by omega]; exact pFin_n ⟨Int32.not_le.mp c38, hdi⟩) : pFin cs (m9 - j) v (.inr a9) = pFin cs (m9 - (j + 1)) (10 * v + (pC cs a9 - 48)) (.inr (a9 + 1)))
          refine lv_bipush (v := (10 : Int32)) hx hb dX2_digits_55 (by decide) ?_
          refine lv_iload_n hx hb dX2_digits_57 rfl (lv_at hl 1 rfl) ?_
          refine lv_imul hx hb dX2_digits_58 ?_
          refine lv_aload_n hx hb dX2_digits_59 rfl (lv_at hl 3 rfl) ?_
          refine g_ki (g_V (As := []) M hR hS (c_X2_look l K hA ht hst) (lw_V q1226 q1228 qs38 q73 q1229) 0 md_X2_look rfl ⟨rfl, rfl⟩ ⟨Nat.le_of_ble_eq_true rfl, Nat.le_of_ble_eq_true rfl⟩ (hR.recv M (tG_0 hA) rfl) rfl hl.1 rfl (lv_room (Nat.le_of_ble_eq_true rfl)) dX2_digits_60 ⟨(by first | exact Nat.le_refl _ | exact Nat.zero_le _ | (dsimp only; omega)), (by first | exact Nat.le_refl _ | exact Nat.zero_le _ | (dsimp only; omega))⟩) hS (fun r60 G60 H locs hp60 hR hS => ?_)
          obtain ⟨rfl, rfl⟩ := hp60
          refine lv_iadd hx hb dX2_digits_63 ?_
          refine lv_bipush (v := (48 : Int32)) hx hb dX2_digits_64 (by decide) ?_
          refine lv_isub hx hb dX2_digits_66 ?_
          refine g_topi (10 * v + (pC cs a9 - 48)) (as48 _ _) ?_
          refine lv_istore_n (lv' := [(2, _), (3, _), (1, _), (0, _)]) hx hb dX2_digits_67 rfl hl (by decide) rfl (fun ls hl => ?_)
          refine lv_aload_n hx hb dX2_digits_68 rfl (lv_at hl 3 rfl) ?_
          refine lv_dup hx hb dX2_digits_69 rfl ?_
          refine t_getE M hA hR 11 (by decide) (hst.1) q1050 rfl dX2_digits_70 ?_
          refine lv_iconst (v := (1 : Int32)) hx hb dX2_digits_73 (by decide) ?_
          refine lv_iadd hx hb dX2_digits_74 ?_
          refine g_topi (nI (a9 + 1)) (nI_1 a9) ?_
          refine t_putQ M hA hR hS 11 (by decide) q1050 ⟨rfl, rfl⟩ rfl rfl dX2_digits_75 (fun V75 H locs hq75 hw75 hz75 hR hS => ?_)
          refine g_inc (lv' := [(3, _), (2, _), (1, _), (0, _)]) M dX2_digits_78 hl (k := 1) rfl (by decide) rfl (fun ls hl => ?_)
          refine lv_goto (tgt := 25) hx hb dX2_digits_81 (by decide) ?_
          exact ih25 (m9 - (j + 1)) _ _ _ _ _ _ (by omega) ⟨j + 1, _, .inr (a9 + 1), _, lv_sub hl [0, 1, 2, 3] rfl, by omega, by omega, rfl, (tQ.trans (tQ.trans tQ.rf hs (by decide)) hq75 (by decide)), ⟨hw75, (hq75.fld (by decide)).trans hst.2.1, pDi_lt hdi⟩, ht.to hq75 (by decide) (by decide), he, rfl, rfl, rfl⟩ hR hS

theorem md_X2_wordHere : gMd yX2_wordHere 0 := by
  unfold gMd
  decide +kernel
set_option maxHeartbeats 4000000 in
set_option maxRecDepth 100000 in
theorem c_X2_wordHere (l : Launch) (K : gK) {G0 : gG} {A : Nat → Nat} {V : tV} {cs : List Nat} {ps : Nat ⊕ Nat} (hA : tInj A) (ht : pTx V cs) (hst : pSt V cs ps)  : Met l yX2_wordHere (ws_ yX2_wordHere cX2_wordHere 1 (Option.some Jvm.ClassFile.FieldType.int)) (gRm 2 0 0 45) (gPre K [.ref (A 0)] (tG K G0 A V)) (gQi K (fun r G1 => ∃ V1, G1 = tG K G0 A V1 ∧ tQ [11, 12] V V1 ∧ pSt V1 cs (pPo (pGo (pWd cs) ps)) ∧ ∀ v, pVa (pGo (pWd cs) ps) = some v → r = v)) 0 0 (gA K) := by
  refine g_met (by decide) (Nat.le_of_ble_eq_true rfl) ?_
  intro p e s m below meth c M hr hlk hnm hR ls hl
  have M : gM K p s m _ c cX2_wordHere 1 RX2 := M
  have hx := M.hx
  have hb := M.hb
  have hS : va_S (gA K) s.heap s.heap [] := va_S.rf
  have hl : lv_has ls 1 [(0, .ref (A 0))] := hl
  refine lv_aload_n hx hb dX2_wordHere_0 rfl (lv_at hl 0 rfl) ?_
  refine lv_aload_n hx hb dX2_wordHere_1 rfl (lv_at hl 0 rfl) ?_
  refine g_ki (g_V (As := []) M hR hS (c_X2_look l K hA ht hst) (lw_V q1226 q1228 qs38 q73 q1229) 0 md_X2_look rfl ⟨rfl, rfl⟩ ⟨Nat.le_of_ble_eq_true rfl, Nat.le_of_ble_eq_true rfl⟩ (hR.recv M (tG_0 hA) rfl) rfl hl.1 rfl (lv_room (Nat.le_of_ble_eq_true rfl)) dX2_wordHere_2 ⟨(by first | exact Nat.le_refl _ | exact Nat.zero_le _ | (dsimp only; omega)), (by first | exact Nat.le_refl _ | exact Nat.zero_le _ | (dsimp only; omega))⟩) hS (fun r2 G2 H locs hp2 hR hS => ?_)
  obtain ⟨rfl, rfl⟩ := hp2
  refine lv_bipush (v := (119 : Int32)) hx hb dX2_wordHere_5 (by decide) ?_
  refine lv_icmp_ne (tgt := 14) hx hb dX2_wordHere_7 (by decide) (fun c7 => ?_) (fun c7 => ?_)
  · refine lv_iconst (v := (0 : Int32)) hx hb dX2_wordHere_14 (by decide) ?_
    refine g_topi (bI (decide (pC cs (pPl ps) = 119))) (by rw [decide_eq_false c7]; rfl) ?_
    refine g_kv (g_V (As := [_]) M hR hS (c_X2_must l K hA ht hst (decide (pC cs (pPl ps) = 119)) (fun a h1 h2 => pC_lt (by have h2 := of_decide_eq_true h2; rw [h1] at h2; have h2 : pC cs a = 119 := h2; rw [h2]; decide))) (lw_V q1230 q1232 qs39 q73 q1233) 1 md_X2_must rfl ⟨rfl, rfl⟩ ⟨Nat.le_of_ble_eq_true rfl, Nat.le_of_ble_eq_true rfl⟩ (hR.recv M (tG_0 hA) rfl) rfl hl.1 rfl (lv_room (Nat.le_of_ble_eq_true rfl)) dX2_wordHere_15 ⟨(by first | exact Nat.le_refl _ | exact Nat.zero_le _ | (dsimp only; omega)), (by first | exact Nat.le_refl _ | exact Nat.zero_le _ | (dsimp only; omega))⟩) hS (fun G15 H locs hp15 hR hS => ?_)
    obtain ⟨V15, rfl, hs15, hst⟩ := hp15
    have ht := ht.to hs15 (by decide) (by decide)
    refine lv_aload_n hx hb dX2_wordHere_18 rfl (lv_at hl 0 rfl) ?_
    refine lv_iconst (v := (2 : Int32)) hx hb dX2_wordHere_19 (by decide) ?_
    refine g_ki (g_V (As := [_]) M hR hS (c_X2_digits l K hA ht hst (m9 := 2) (by decide) (by decide)) (lw_V q1234 q1236 qs40 q73 q1237) 1 md_X2_digits rfl ⟨rfl, rfl⟩ ⟨Nat.le_of_ble_eq_true rfl, Nat.le_of_ble_eq_true rfl⟩ (hR.recv M (tG_0 hA) rfl) rfl hl.1 rfl (lv_room (Nat.le_of_ble_eq_true rfl)) dX2_wordHere_20 ⟨(by first | exact Nat.le_refl _ | exact Nat.zero_le _ | (dsimp only; omega)), (by first | exact Nat.le_refl _ | exact Nat.zero_le _ | (dsimp only; omega))⟩) hS (fun r20 G20 H locs hp20 hR hS => ?_)
    obtain ⟨V20, rfl, hs20, hst, hv20⟩ := hp20
    have ht := ht.to hs20 (by decide) (by decide)
    exact g_iret M hr hlk hR hS (by omega) (by omega) dX2_wordHere_23 (⟨_, rfl, (tQ.trans (tQ.trans tQ.rf hs15 (by decide)) hs20 (by decide)), by rw [pWd_go]; exact hst, fun v9 h9 => by rw [pWd_go] at h9; exact hv20 v9 h9⟩)
  · refine lv_iconst (v := (1 : Int32)) hx hb dX2_wordHere_10 (by decide) ?_
    refine lv_goto (tgt := 15) hx hb dX2_wordHere_11 (by decide) ?_
    refine g_topi (bI (decide (pC cs (pPl ps) = 119))) (by rw [decide_eq_true c7]; rfl) ?_
    refine g_kv (g_V (As := [_]) M hR hS (c_X2_must l K hA ht hst (decide (pC cs (pPl ps) = 119)) (fun a h1 h2 => pC_lt (by have h2 := of_decide_eq_true h2; rw [h1] at h2; have h2 : pC cs a = 119 := h2; rw [h2]; decide))) (lw_V q1230 q1232 qs39 q73 q1233) 1 md_X2_must rfl ⟨rfl, rfl⟩ ⟨Nat.le_of_ble_eq_true rfl, Nat.le_of_ble_eq_true rfl⟩ (hR.recv M (tG_0 hA) rfl) rfl hl.1 rfl (lv_room (Nat.le_of_ble_eq_true rfl)) dX2_wordHere_15 ⟨(by first | exact Nat.le_refl _ | exact Nat.zero_le _ | (dsimp only; omega)), (by first | exact Nat.le_refl _ | exact Nat.zero_le _ | (dsimp only; omega))⟩) hS (fun G15 H locs hp15 hR hS => ?_)
    obtain ⟨V15, rfl, hs15, hst⟩ := hp15
    have ht := ht.to hs15 (by decide) (by decide)
    refine lv_aload_n hx hb dX2_wordHere_18 rfl (lv_at hl 0 rfl) ?_
    refine lv_iconst (v := (2 : Int32)) hx hb dX2_wordHere_19 (by decide) ?_
    refine g_ki (g_V (As := [_]) M hR hS (c_X2_digits l K hA ht hst (m9 := 2) (by decide) (by decide)) (lw_V q1234 q1236 qs40 q73 q1237) 1 md_X2_digits rfl ⟨rfl, rfl⟩ ⟨Nat.le_of_ble_eq_true rfl, Nat.le_of_ble_eq_true rfl⟩ (hR.recv M (tG_0 hA) rfl) rfl hl.1 rfl (lv_room (Nat.le_of_ble_eq_true rfl)) dX2_wordHere_20 ⟨(by first | exact Nat.le_refl _ | exact Nat.zero_le _ | (dsimp only; omega)), (by first | exact Nat.le_refl _ | exact Nat.zero_le _ | (dsimp only; omega))⟩) hS (fun r20 G20 H locs hp20 hR hS => ?_)
    obtain ⟨V20, rfl, hs20, hst, hv20⟩ := hp20
    have ht := ht.to hs20 (by decide) (by decide)
    exact g_iret M hr hlk hR hS (by omega) (by omega) dX2_wordHere_23 (⟨_, rfl, (tQ.trans (tQ.trans tQ.rf hs15 (by decide)) hs20 (by decide)), by rw [pWd_go]; exact hst, fun v9 h9 => by rw [pWd_go] at h9; exact hv20 v9 h9⟩)

theorem md_X2_tenths : gMd yX2_tenths 0 := by
  unfold gMd
  decide +kernel
set_option maxHeartbeats 4000000 in
set_option maxRecDepth 100000 in
theorem c_X2_tenths (l : Launch) (K : gK) {G0 : gG} {A : Nat → Nat} {V : tV} {cs : List Nat} {ps : Nat ⊕ Nat} (hA : tInj A) (ht : pTx V cs) (hst : pSt V cs ps)  : Met l yX2_tenths (ws_ yX2_tenths cX2_tenths 4 (Option.some Jvm.ClassFile.FieldType.int)) (gRm 2 0 0 45) (gPre K [.ref (A 0)] (tG K G0 A V)) (gQi K (fun r G1 => ∃ V1, G1 = tG K G0 A V1 ∧ tQ [11, 12] V V1 ∧ pSt V1 cs (pPo (pGo (pNm cs) ps)) ∧ ∀ v, pVa (pGo (pNm cs) ps) = some v → r = v)) 0 0 (gA K) := by
  refine g_met (by decide) (Nat.le_of_ble_eq_true rfl) ?_
  intro p e s m below meth c M hr hlk hnm hR ls hl
  have M : gM K p s m _ c cX2_tenths 4 RX2 := M
  have hx := M.hx
  have hb := M.hb
  have hS : va_S (gA K) s.heap s.heap [] := va_S.rf
  have hl : lv_has ls 4 [(0, .ref (A 0))] := hl
  refine lv_aload_n hx hb dX2_tenths_0 rfl (lv_at hl 0 rfl) ?_
  refine g_ki (g_V (As := []) M hR hS (c_X2_look l K hA ht hst) (lw_V q1226 q1228 qs38 q73 q1229) 0 md_X2_look rfl ⟨rfl, rfl⟩ ⟨Nat.le_of_ble_eq_true rfl, Nat.le_of_ble_eq_true rfl⟩ (hR.recv M (tG_0 hA) rfl) rfl hl.1 rfl (lv_room (Nat.le_of_ble_eq_true rfl)) dX2_tenths_1 ⟨(by first | exact Nat.le_refl _ | exact Nat.zero_le _ | (dsimp only; omega)), (by first | exact Nat.le_refl _ | exact Nat.zero_le _ | (dsimp only; omega))⟩) hS (fun r1 G1 H locs hp1 hR hS => ?_)
  obtain ⟨rfl, rfl⟩ := hp1
  refine lv_bipush (v := (45 : Int32)) hx hb dX2_tenths_4 (by decide) ?_
  refine lv_icmp_ne (tgt := 13) hx hb dX2_tenths_6 (by decide) (fun c6 => ?_) (fun c6 => ?_)
  · refine lv_iconst (v := (0 : Int32)) hx hb dX2_tenths_13 (by decide) ?_
    refine g_topi (bI (pNg cs (pPl ps))) (by unfold pNg; rw [decide_eq_false c6]; rfl) ?_
    refine lv_istore_n (lv' := [(1, _), (0, _)]) hx hb dX2_tenths_14 rfl hl (by decide) rfl (fun ls hl => ?_)
    refine lv_aload_n hx hb dX2_tenths_15 rfl (lv_at hl 1 rfl) ?_
    refine lv_dup hx hb dX2_tenths_16 rfl ?_
    refine t_getE M hA hR 11 (by decide) (hst.1) q1050 rfl dX2_tenths_17 ?_
    refine lv_iload_n hx hb dX2_tenths_20 rfl (lv_at hl 0 rfl) ?_
    refine lv_if_eq (tgt := 35) hx hb dX2_tenths_21 (by decide) (fun c21 => ?_) (fun c21 => ?_)
    · refine lv_iconst (v := (0 : Int32)) hx hb dX2_tenths_35 (by decide) ?_
      refine lv_iadd hx hb dX2_tenths_36 ?_
      refine g_topi (nI (pPl (pN0 cs ps))) (by cases ps with | inl p => exact Int32.add_zero _ | inr a => exact (Int32.add_zero _).trans (congrArg nI (if_neg (by have h0 : pNg cs a = false := bI_0.mp c21; rw [h0]; decide)).symm)) ?_
      refine t_putQ M hA hR hS 11 (by decide) q1050 ⟨rfl, rfl⟩ rfl rfl dX2_tenths_37 (fun V37 H locs hq37 hw37 hz37 hR hS => ?_)
      have ht := ht.to hq37 (by decide) (by decide)
      have hst : pSt V37 cs (pN0 cs ps) := ⟨hw37, (hq37.fld (by decide)).trans (hst.2.1.trans (by rw [pN0_wr])), pN0_pl hst.2.2⟩
      refine lv_aload_n hx hb dX2_tenths_40 rfl (lv_at hl 1 rfl) ?_
      refine lv_iconst (v := (3 : Int32)) hx hb dX2_tenths_41 (by decide) ?_
      refine g_ki (g_V (As := [_]) M hR hS (c_X2_digits l K hA ht hst (m9 := 3) (by decide) (by decide)) (lw_V q1234 q1236 qs40 q73 q1237) 1 md_X2_digits rfl ⟨rfl, rfl⟩ ⟨Nat.le_of_ble_eq_true rfl, Nat.le_of_ble_eq_true rfl⟩ (hR.recv M (tG_0 hA) rfl) rfl hl.1 rfl (lv_room (Nat.le_of_ble_eq_true rfl)) dX2_tenths_42 ⟨(by first | exact Nat.le_refl _ | exact Nat.zero_le _ | (dsimp only; omega)), (by first | exact Nat.le_refl _ | exact Nat.zero_le _ | (dsimp only; omega))⟩) hS (fun r42 G42 H locs hp42 hR hS => ?_)
      obtain ⟨V42, rfl, hs42, hst, hv42⟩ := hp42
      have ht := ht.to hs42 (by decide) (by decide)
      refine lv_istore_n (lv' := [(2, _), (1, _), (0, _)]) hx hb dX2_tenths_45 rfl hl (by decide) rfl (fun ls hl => ?_)
      refine lv_aload_n hx hb dX2_tenths_46 rfl (lv_at hl 2 rfl) ?_
      refine lv_aload_n hx hb dX2_tenths_47 rfl (lv_at hl 2 rfl) ?_
      refine g_ki (g_V (As := []) M hR hS (c_X2_look l K hA ht hst) (lw_V q1226 q1228 qs38 q73 q1229) 0 md_X2_look rfl ⟨rfl, rfl⟩ ⟨Nat.le_of_ble_eq_true rfl, Nat.le_of_ble_eq_true rfl⟩ (hR.recv M (tG_0 hA) rfl) rfl hl.1 rfl (lv_room (Nat.le_of_ble_eq_true rfl)) dX2_tenths_48 ⟨(by first | exact Nat.le_refl _ | exact Nat.zero_le _ | (dsimp only; omega)), (by first | exact Nat.le_refl _ | exact Nat.zero_le _ | (dsimp only; omega))⟩) hS (fun r48 G48 H locs hp48 hR hS => ?_)
      obtain ⟨rfl, rfl⟩ := hp48
      refine lv_bipush (v := (46 : Int32)) hx hb dX2_tenths_51 (by decide) ?_
      refine lv_icmp_ne (tgt := 60) hx hb dX2_tenths_53 (by decide) (fun c53 => ?_) (fun c53 => ?_)
      · refine lv_iconst (v := (0 : Int32)) hx hb dX2_tenths_60 (by decide) ?_
        refine g_topi (bI (decide (pC cs (pPl (pPo (pGo (pDs cs 3) (pN0 cs ps)))) = 46))) (by rw [decide_eq_false c53]; rfl) ?_
        refine g_kv (g_V (As := [_]) M hR hS (c_X2_must l K hA ht hst (decide (pC cs (pPl (pPo (pGo (pDs cs 3) (pN0 cs ps)))) = 46)) (fun a h1 h2 => pC_lt (by have h2 := of_decide_eq_true h2; rw [h1] at h2; have h2 : pC cs a = 46 := h2; rw [h2]; decide))) (lw_V q1230 q1232 qs39 q73 q1233) 1 md_X2_must rfl ⟨rfl, rfl⟩ ⟨Nat.le_of_ble_eq_true rfl, Nat.le_of_ble_eq_true rfl⟩ (hR.recv M (tG_0 hA) rfl) rfl hl.1 rfl (lv_room (Nat.le_of_ble_eq_true rfl)) dX2_tenths_61 ⟨(by first | exact Nat.le_refl _ | exact Nat.zero_le _ | (dsimp only; omega)), (by first | exact Nat.le_refl _ | exact Nat.zero_le _ | (dsimp only; omega))⟩) hS (fun G61 H locs hp61 hR hS => ?_)
        obtain ⟨V61, rfl, hs61, hst⟩ := hp61
        have ht := ht.to hs61 (by decide) (by decide)
        refine lv_aload_n hx hb dX2_tenths_64 rfl (lv_at hl 2 rfl) ?_
        refine g_ki (g_V (As := []) M hR hS (c_X2_look l K hA ht hst) (lw_V q1226 q1228 qs38 q73 q1229) 0 md_X2_look rfl ⟨rfl, rfl⟩ ⟨Nat.le_of_ble_eq_true rfl, Nat.le_of_ble_eq_true rfl⟩ (hR.recv M (tG_0 hA) rfl) rfl hl.1 rfl (lv_room (Nat.le_of_ble_eq_true rfl)) dX2_tenths_65 ⟨(by first | exact Nat.le_refl _ | exact Nat.zero_le _ | (dsimp only; omega)), (by first | exact Nat.le_refl _ | exact Nat.zero_le _ | (dsimp only; omega))⟩) hS (fun r65 G65 H locs hp65 hR hS => ?_)
        obtain ⟨rfl, rfl⟩ := hp65
        refine lv_bipush (v := (48 : Int32)) hx hb dX2_tenths_68 (by decide) ?_
        refine lv_isub hx hb dX2_tenths_70 ?_
        refine lv_istore_n (lv' := [(3, _), (2, _), (1, _), (0, _)]) hx hb dX2_tenths_71 rfl hl (by decide) rfl (fun ls hl => ?_)
        refine lv_aload_n hx hb dX2_tenths_72 rfl (lv_at hl 3 rfl) ?_
        refine lv_aload_n hx hb dX2_tenths_73 rfl (lv_at hl 3 rfl) ?_
        refine g_ki (g_V (As := []) M hR hS (c_X2_look l K hA ht hst) (lw_V q1226 q1228 qs38 q73 q1229) 0 md_X2_look rfl ⟨rfl, rfl⟩ ⟨Nat.le_of_ble_eq_true rfl, Nat.le_of_ble_eq_true rfl⟩ (hR.recv M (tG_0 hA) rfl) rfl hl.1 rfl (lv_room (Nat.le_of_ble_eq_true rfl)) dX2_tenths_74 ⟨(by first | exact Nat.le_refl _ | exact Nat.zero_le _ | (dsimp only; omega)), (by first | exact Nat.le_refl _ | exact Nat.zero_le _ | (dsimp only; omega))⟩) hS (fun r74 G74 H locs hp74 hR hS => ?_)
        obtain ⟨rfl, rfl⟩ := hp74
        refine lv_bipush (v := (48 : Int32)) hx hb dX2_tenths_77 (by decide) ?_
        refine lv_bipush (v := (57 : Int32)) hx hb dX2_tenths_79 (by decide) ?_
        refine g_ki (g_S (As := [_, _, _]) M hR hS (c_X2_in l K _ _ _) (lw_S q1098 q1099 q73 q1100) 3 md_X2_in ⟨rfl, rfl⟩ ⟨Nat.le_of_ble_eq_true rfl, Nat.le_of_ble_eq_true rfl⟩ rfl hl.1 rfl (lv_room (Nat.le_of_ble_eq_true rfl)) dX2_tenths_81 ⟨(by first | exact Nat.le_refl _ | exact Nat.zero_le _ | (dsimp only; omega)), (by first | exact Nat.le_refl _ | exact Nat.zero_le _ | (dsimp only; omega))⟩) hS (fun r81 G81 H locs hp81 hR hS => ?_)
        obtain ⟨rfl, e0⟩ := hp81
        rw [e0] at hR
        refine g_kv (g_V (As := [_]) M hR hS (c_X2_must l K hA ht hst (pDi cs (pPl (pMu (decide (pC cs (pPl (pPo (pGo (pDs cs 3) (pN0 cs ps)))) = 46)) (pPo (pGo (pDs cs 3) (pN0 cs ps)))))) (fun a h1 h2 => by rw [h1] at h2; exact pDi_lt h2)) (lw_V q1230 q1232 qs39 q73 q1233) 1 md_X2_must rfl ⟨rfl, rfl⟩ ⟨Nat.le_of_ble_eq_true rfl, Nat.le_of_ble_eq_true rfl⟩ (hR.recv M (tG_0 hA) rfl) rfl hl.1 rfl (lv_room (Nat.le_of_ble_eq_true rfl)) dX2_tenths_84 ⟨(by first | exact Nat.le_refl _ | exact Nat.zero_le _ | (dsimp only; omega)), (by first | exact Nat.le_refl _ | exact Nat.zero_le _ | (dsimp only; omega))⟩) hS (fun G84 H locs hp84 hR hS => ?_)
        obtain ⟨V84, rfl, hs84, hst⟩ := hp84
        have ht := ht.to hs84 (by decide) (by decide)
        obtain ⟨e1, e2⟩ := pNu_go (less := pNg cs (pPl ps)) (ps := pN0 cs ps) rfl rfl
        refine lv_iload_n hx hb dX2_tenths_87 rfl (lv_at hl 2 rfl) ?_
        refine lv_if_eq (tgt := 101) hx hb dX2_tenths_88 (by decide) (fun c88 => ?_) (fun c88 => ?_)
        · refine lv_bipush (v := (10 : Int32)) hx hb dX2_tenths_101 (by decide) ?_
          refine lv_iload_n hx hb dX2_tenths_103 rfl (lv_at hl 1 rfl) ?_
          refine lv_imul hx hb dX2_tenths_104 ?_
          refine lv_iload_n hx hb dX2_tenths_105 rfl (lv_at hl 0 rfl) ?_
          refine lv_iadd hx hb dX2_tenths_106 ?_
          exact g_iret M hr hlk hR hS (by omega) (by omega) dX2_tenths_107 (⟨_, rfl, (tQ.trans (tQ.trans (tQ.trans (tQ.trans tQ.rf hq37 (by decide)) hs42 (by decide)) hs61 (by decide)) hs84 (by decide)), by rw [pNm_go, e1]; exact hst, fun v9 h9 => by rw [pNm_go] at h9; obtain ⟨u9, hu9, rfl⟩ := e2 v9 h9; rw [hv42 u9 hu9, if_neg (by rw [bI_0.mp c88]; decide)]⟩)
        · refine lv_bipush (v := (10 : Int32)) hx hb dX2_tenths_91 (by decide) ?_
          refine lv_iload_n hx hb dX2_tenths_93 rfl (lv_at hl 1 rfl) ?_
          refine lv_imul hx hb dX2_tenths_94 ?_
          refine lv_iload_n hx hb dX2_tenths_95 rfl (lv_at hl 0 rfl) ?_
          refine lv_iadd hx hb dX2_tenths_96 ?_
          refine lv_ineg hx hb dX2_tenths_97 ?_
          refine lv_goto (tgt := 107) hx hb dX2_tenths_98 (by decide) ?_
          exact g_iret M hr hlk hR hS (by omega) (by omega) dX2_tenths_107 (⟨_, rfl, (tQ.trans (tQ.trans (tQ.trans (tQ.trans tQ.rf hq37 (by decide)) hs42 (by decide)) hs61 (by decide)) hs84 (by decide)), by rw [pNm_go, e1]; exact hst, fun v9 h9 => by rw [pNm_go] at h9; obtain ⟨u9, hu9, rfl⟩ := e2 v9 h9; rw [hv42 u9 hu9, if_pos (bI_n0.mp c88)]⟩)
      · refine lv_iconst (v := (1 : Int32)) hx hb dX2_tenths_56 (by decide) ?_
        refine lv_goto (tgt := 61) hx hb dX2_tenths_57 (by decide) ?_
        refine g_topi (bI (decide (pC cs (pPl (pPo (pGo (pDs cs 3) (pN0 cs ps)))) = 46))) (by rw [decide_eq_true c53]; rfl) ?_
        refine g_kv (g_V (As := [_]) M hR hS (c_X2_must l K hA ht hst (decide (pC cs (pPl (pPo (pGo (pDs cs 3) (pN0 cs ps)))) = 46)) (fun a h1 h2 => pC_lt (by have h2 := of_decide_eq_true h2; rw [h1] at h2; have h2 : pC cs a = 46 := h2; rw [h2]; decide))) (lw_V q1230 q1232 qs39 q73 q1233) 1 md_X2_must rfl ⟨rfl, rfl⟩ ⟨Nat.le_of_ble_eq_true rfl, Nat.le_of_ble_eq_true rfl⟩ (hR.recv M (tG_0 hA) rfl) rfl hl.1 rfl (lv_room (Nat.le_of_ble_eq_true rfl)) dX2_tenths_61 ⟨(by first | exact Nat.le_refl _ | exact Nat.zero_le _ | (dsimp only; omega)), (by first | exact Nat.le_refl _ | exact Nat.zero_le _ | (dsimp only; omega))⟩) hS (fun G61 H locs hp61 hR hS => ?_)
        obtain ⟨V61, rfl, hs61, hst⟩ := hp61
        have ht := ht.to hs61 (by decide) (by decide)
        refine lv_aload_n hx hb dX2_tenths_64 rfl (lv_at hl 2 rfl) ?_
        refine g_ki (g_V (As := []) M hR hS (c_X2_look l K hA ht hst) (lw_V q1226 q1228 qs38 q73 q1229) 0 md_X2_look rfl ⟨rfl, rfl⟩ ⟨Nat.le_of_ble_eq_true rfl, Nat.le_of_ble_eq_true rfl⟩ (hR.recv M (tG_0 hA) rfl) rfl hl.1 rfl (lv_room (Nat.le_of_ble_eq_true rfl)) dX2_tenths_65 ⟨(by first | exact Nat.le_refl _ | exact Nat.zero_le _ | (dsimp only; omega)), (by first | exact Nat.le_refl _ | exact Nat.zero_le _ | (dsimp only; omega))⟩) hS (fun r65 G65 H locs hp65 hR hS => ?_)
        obtain ⟨rfl, rfl⟩ := hp65
        refine lv_bipush (v := (48 : Int32)) hx hb dX2_tenths_68 (by decide) ?_
        refine lv_isub hx hb dX2_tenths_70 ?_
        refine lv_istore_n (lv' := [(3, _), (2, _), (1, _), (0, _)]) hx hb dX2_tenths_71 rfl hl (by decide) rfl (fun ls hl => ?_)
        refine lv_aload_n hx hb dX2_tenths_72 rfl (lv_at hl 3 rfl) ?_
        refine lv_aload_n hx hb dX2_tenths_73 rfl (lv_at hl 3 rfl) ?_
        refine g_ki (g_V (As := []) M hR hS (c_X2_look l K hA ht hst) (lw_V q1226 q1228 qs38 q73 q1229) 0 md_X2_look rfl ⟨rfl, rfl⟩ ⟨Nat.le_of_ble_eq_true rfl, Nat.le_of_ble_eq_true rfl⟩ (hR.recv M (tG_0 hA) rfl) rfl hl.1 rfl (lv_room (Nat.le_of_ble_eq_true rfl)) dX2_tenths_74 ⟨(by first | exact Nat.le_refl _ | exact Nat.zero_le _ | (dsimp only; omega)), (by first | exact Nat.le_refl _ | exact Nat.zero_le _ | (dsimp only; omega))⟩) hS (fun r74 G74 H locs hp74 hR hS => ?_)
        obtain ⟨rfl, rfl⟩ := hp74
        refine lv_bipush (v := (48 : Int32)) hx hb dX2_tenths_77 (by decide) ?_
        refine lv_bipush (v := (57 : Int32)) hx hb dX2_tenths_79 (by decide) ?_
        refine g_ki (g_S (As := [_, _, _]) M hR hS (c_X2_in l K _ _ _) (lw_S q1098 q1099 q73 q1100) 3 md_X2_in ⟨rfl, rfl⟩ ⟨Nat.le_of_ble_eq_true rfl, Nat.le_of_ble_eq_true rfl⟩ rfl hl.1 rfl (lv_room (Nat.le_of_ble_eq_true rfl)) dX2_tenths_81 ⟨(by first | exact Nat.le_refl _ | exact Nat.zero_le _ | (dsimp only; omega)), (by first | exact Nat.le_refl _ | exact Nat.zero_le _ | (dsimp only; omega))⟩) hS (fun r81 G81 H locs hp81 hR hS => ?_)
        obtain ⟨rfl, e0⟩ := hp81
        rw [e0] at hR
        refine g_kv (g_V (As := [_]) M hR hS (c_X2_must l K hA ht hst (pDi cs (pPl (pMu (decide (pC cs (pPl (pPo (pGo (pDs cs 3) (pN0 cs ps)))) = 46)) (pPo (pGo (pDs cs 3) (pN0 cs ps)))))) (fun a h1 h2 => by rw [h1] at h2; exact pDi_lt h2)) (lw_V q1230 q1232 qs39 q73 q1233) 1 md_X2_must rfl ⟨rfl, rfl⟩ ⟨Nat.le_of_ble_eq_true rfl, Nat.le_of_ble_eq_true rfl⟩ (hR.recv M (tG_0 hA) rfl) rfl hl.1 rfl (lv_room (Nat.le_of_ble_eq_true rfl)) dX2_tenths_84 ⟨(by first | exact Nat.le_refl _ | exact Nat.zero_le _ | (dsimp only; omega)), (by first | exact Nat.le_refl _ | exact Nat.zero_le _ | (dsimp only; omega))⟩) hS (fun G84 H locs hp84 hR hS => ?_)
        obtain ⟨V84, rfl, hs84, hst⟩ := hp84
        have ht := ht.to hs84 (by decide) (by decide)
        obtain ⟨e1, e2⟩ := pNu_go (less := pNg cs (pPl ps)) (ps := pN0 cs ps) rfl rfl
        refine lv_iload_n hx hb dX2_tenths_87 rfl (lv_at hl 2 rfl) ?_
        refine lv_if_eq (tgt := 101) hx hb dX2_tenths_88 (by decide) (fun c88 => ?_) (fun c88 => ?_)
        · refine lv_bipush (v := (10 : Int32)) hx hb dX2_tenths_101 (by decide) ?_
          refine lv_iload_n hx hb dX2_tenths_103 rfl (lv_at hl 1 rfl) ?_
          refine lv_imul hx hb dX2_tenths_104 ?_
          refine lv_iload_n hx hb dX2_tenths_105 rfl (lv_at hl 0 rfl) ?_
          refine lv_iadd hx hb dX2_tenths_106 ?_
          exact g_iret M hr hlk hR hS (by omega) (by omega) dX2_tenths_107 (⟨_, rfl, (tQ.trans (tQ.trans (tQ.trans (tQ.trans tQ.rf hq37 (by decide)) hs42 (by decide)) hs61 (by decide)) hs84 (by decide)), by rw [pNm_go, e1]; exact hst, fun v9 h9 => by rw [pNm_go] at h9; obtain ⟨u9, hu9, rfl⟩ := e2 v9 h9; rw [hv42 u9 hu9, if_neg (by rw [bI_0.mp c88]; decide)]⟩)
        · refine lv_bipush (v := (10 : Int32)) hx hb dX2_tenths_91 (by decide) ?_
          refine lv_iload_n hx hb dX2_tenths_93 rfl (lv_at hl 1 rfl) ?_
          refine lv_imul hx hb dX2_tenths_94 ?_
          refine lv_iload_n hx hb dX2_tenths_95 rfl (lv_at hl 0 rfl) ?_
          refine lv_iadd hx hb dX2_tenths_96 ?_
          refine lv_ineg hx hb dX2_tenths_97 ?_
          refine lv_goto (tgt := 107) hx hb dX2_tenths_98 (by decide) ?_
          exact g_iret M hr hlk hR hS (by omega) (by omega) dX2_tenths_107 (⟨_, rfl, (tQ.trans (tQ.trans (tQ.trans (tQ.trans tQ.rf hq37 (by decide)) hs42 (by decide)) hs61 (by decide)) hs84 (by decide)), by rw [pNm_go, e1]; exact hst, fun v9 h9 => by rw [pNm_go] at h9; obtain ⟨u9, hu9, rfl⟩ := e2 v9 h9; rw [hv42 u9 hu9, if_pos (bI_n0.mp c88)]⟩)
    · refine lv_aload_n hx hb dX2_tenths_24 rfl (lv_at hl 1 rfl) ?_
      refine t_getE M hA hR 12 (by decide) (hst.2.1) q1051 rfl dX2_tenths_25 ?_
      refine lv_if_ne (tgt := 35) hx hb dX2_tenths_28 (by decide) (fun c28 => ?_) (fun c28 => ?_)
      · refine lv_iconst (v := (0 : Int32)) hx hb dX2_tenths_35 (by decide) ?_
        refine lv_iadd hx hb dX2_tenths_36 ?_
        refine g_topi (nI (pPl (pN0 cs ps))) (by obtain ⟨p9, rfl⟩ := pWr_t (bI_n0.mp c28); exact Int32.add_zero _) ?_
        refine t_putQ M hA hR hS 11 (by decide) q1050 ⟨rfl, rfl⟩ rfl rfl dX2_tenths_37 (fun V37 H locs hq37 hw37 hz37 hR hS => ?_)
        have ht := ht.to hq37 (by decide) (by decide)
        have hst : pSt V37 cs (pN0 cs ps) := ⟨hw37, (hq37.fld (by decide)).trans (hst.2.1.trans (by rw [pN0_wr])), pN0_pl hst.2.2⟩
        refine lv_aload_n hx hb dX2_tenths_40 rfl (lv_at hl 1 rfl) ?_
        refine lv_iconst (v := (3 : Int32)) hx hb dX2_tenths_41 (by decide) ?_
        refine g_ki (g_V (As := [_]) M hR hS (c_X2_digits l K hA ht hst (m9 := 3) (by decide) (by decide)) (lw_V q1234 q1236 qs40 q73 q1237) 1 md_X2_digits rfl ⟨rfl, rfl⟩ ⟨Nat.le_of_ble_eq_true rfl, Nat.le_of_ble_eq_true rfl⟩ (hR.recv M (tG_0 hA) rfl) rfl hl.1 rfl (lv_room (Nat.le_of_ble_eq_true rfl)) dX2_tenths_42 ⟨(by first | exact Nat.le_refl _ | exact Nat.zero_le _ | (dsimp only; omega)), (by first | exact Nat.le_refl _ | exact Nat.zero_le _ | (dsimp only; omega))⟩) hS (fun r42 G42 H locs hp42 hR hS => ?_)
        obtain ⟨V42, rfl, hs42, hst, hv42⟩ := hp42
        have ht := ht.to hs42 (by decide) (by decide)
        refine lv_istore_n (lv' := [(2, _), (1, _), (0, _)]) hx hb dX2_tenths_45 rfl hl (by decide) rfl (fun ls hl => ?_)
        refine lv_aload_n hx hb dX2_tenths_46 rfl (lv_at hl 2 rfl) ?_
        refine lv_aload_n hx hb dX2_tenths_47 rfl (lv_at hl 2 rfl) ?_
        refine g_ki (g_V (As := []) M hR hS (c_X2_look l K hA ht hst) (lw_V q1226 q1228 qs38 q73 q1229) 0 md_X2_look rfl ⟨rfl, rfl⟩ ⟨Nat.le_of_ble_eq_true rfl, Nat.le_of_ble_eq_true rfl⟩ (hR.recv M (tG_0 hA) rfl) rfl hl.1 rfl (lv_room (Nat.le_of_ble_eq_true rfl)) dX2_tenths_48 ⟨(by first | exact Nat.le_refl _ | exact Nat.zero_le _ | (dsimp only; omega)), (by first | exact Nat.le_refl _ | exact Nat.zero_le _ | (dsimp only; omega))⟩) hS (fun r48 G48 H locs hp48 hR hS => ?_)
        obtain ⟨rfl, rfl⟩ := hp48
        refine lv_bipush (v := (46 : Int32)) hx hb dX2_tenths_51 (by decide) ?_
        refine lv_icmp_ne (tgt := 60) hx hb dX2_tenths_53 (by decide) (fun c53 => ?_) (fun c53 => ?_)
        · refine lv_iconst (v := (0 : Int32)) hx hb dX2_tenths_60 (by decide) ?_
          refine g_topi (bI (decide (pC cs (pPl (pPo (pGo (pDs cs 3) (pN0 cs ps)))) = 46))) (by rw [decide_eq_false c53]; rfl) ?_
          refine g_kv (g_V (As := [_]) M hR hS (c_X2_must l K hA ht hst (decide (pC cs (pPl (pPo (pGo (pDs cs 3) (pN0 cs ps)))) = 46)) (fun a h1 h2 => pC_lt (by have h2 := of_decide_eq_true h2; rw [h1] at h2; have h2 : pC cs a = 46 := h2; rw [h2]; decide))) (lw_V q1230 q1232 qs39 q73 q1233) 1 md_X2_must rfl ⟨rfl, rfl⟩ ⟨Nat.le_of_ble_eq_true rfl, Nat.le_of_ble_eq_true rfl⟩ (hR.recv M (tG_0 hA) rfl) rfl hl.1 rfl (lv_room (Nat.le_of_ble_eq_true rfl)) dX2_tenths_61 ⟨(by first | exact Nat.le_refl _ | exact Nat.zero_le _ | (dsimp only; omega)), (by first | exact Nat.le_refl _ | exact Nat.zero_le _ | (dsimp only; omega))⟩) hS (fun G61 H locs hp61 hR hS => ?_)
          obtain ⟨V61, rfl, hs61, hst⟩ := hp61
          have ht := ht.to hs61 (by decide) (by decide)
          refine lv_aload_n hx hb dX2_tenths_64 rfl (lv_at hl 2 rfl) ?_
          refine g_ki (g_V (As := []) M hR hS (c_X2_look l K hA ht hst) (lw_V q1226 q1228 qs38 q73 q1229) 0 md_X2_look rfl ⟨rfl, rfl⟩ ⟨Nat.le_of_ble_eq_true rfl, Nat.le_of_ble_eq_true rfl⟩ (hR.recv M (tG_0 hA) rfl) rfl hl.1 rfl (lv_room (Nat.le_of_ble_eq_true rfl)) dX2_tenths_65 ⟨(by first | exact Nat.le_refl _ | exact Nat.zero_le _ | (dsimp only; omega)), (by first | exact Nat.le_refl _ | exact Nat.zero_le _ | (dsimp only; omega))⟩) hS (fun r65 G65 H locs hp65 hR hS => ?_)
          obtain ⟨rfl, rfl⟩ := hp65
          refine lv_bipush (v := (48 : Int32)) hx hb dX2_tenths_68 (by decide) ?_
          refine lv_isub hx hb dX2_tenths_70 ?_
          refine lv_istore_n (lv' := [(3, _), (2, _), (1, _), (0, _)]) hx hb dX2_tenths_71 rfl hl (by decide) rfl (fun ls hl => ?_)
          refine lv_aload_n hx hb dX2_tenths_72 rfl (lv_at hl 3 rfl) ?_
          refine lv_aload_n hx hb dX2_tenths_73 rfl (lv_at hl 3 rfl) ?_
          refine g_ki (g_V (As := []) M hR hS (c_X2_look l K hA ht hst) (lw_V q1226 q1228 qs38 q73 q1229) 0 md_X2_look rfl ⟨rfl, rfl⟩ ⟨Nat.le_of_ble_eq_true rfl, Nat.le_of_ble_eq_true rfl⟩ (hR.recv M (tG_0 hA) rfl) rfl hl.1 rfl (lv_room (Nat.le_of_ble_eq_true rfl)) dX2_tenths_74 ⟨(by first | exact Nat.le_refl _ | exact Nat.zero_le _ | (dsimp only; omega)), (by first | exact Nat.le_refl _ | exact Nat.zero_le _ | (dsimp only; omega))⟩) hS (fun r74 G74 H locs hp74 hR hS => ?_)
          obtain ⟨rfl, rfl⟩ := hp74
          refine lv_bipush (v := (48 : Int32)) hx hb dX2_tenths_77 (by decide) ?_
          refine lv_bipush (v := (57 : Int32)) hx hb dX2_tenths_79 (by decide) ?_
          refine g_ki (g_S (As := [_, _, _]) M hR hS (c_X2_in l K _ _ _) (lw_S q1098 q1099 q73 q1100) 3 md_X2_in ⟨rfl, rfl⟩ ⟨Nat.le_of_ble_eq_true rfl, Nat.le_of_ble_eq_true rfl⟩ rfl hl.1 rfl (lv_room (Nat.le_of_ble_eq_true rfl)) dX2_tenths_81 ⟨(by first | exact Nat.le_refl _ | exact Nat.zero_le _ | (dsimp only; omega)), (by first | exact Nat.le_refl _ | exact Nat.zero_le _ | (dsimp only; omega))⟩) hS (fun r81 G81 H locs hp81 hR hS => ?_)
          obtain ⟨rfl, e0⟩ := hp81
          rw [e0] at hR
          refine g_kv (g_V (As := [_]) M hR hS (c_X2_must l K hA ht hst (pDi cs (pPl (pMu (decide (pC cs (pPl (pPo (pGo (pDs cs 3) (pN0 cs ps)))) = 46)) (pPo (pGo (pDs cs 3) (pN0 cs ps)))))) (fun a h1 h2 => by rw [h1] at h2; exact pDi_lt h2)) (lw_V q1230 q1232 qs39 q73 q1233) 1 md_X2_must rfl ⟨rfl, rfl⟩ ⟨Nat.le_of_ble_eq_true rfl, Nat.le_of_ble_eq_true rfl⟩ (hR.recv M (tG_0 hA) rfl) rfl hl.1 rfl (lv_room (Nat.le_of_ble_eq_true rfl)) dX2_tenths_84 ⟨(by first | exact Nat.le_refl _ | exact Nat.zero_le _ | (dsimp only; omega)), (by first | exact Nat.le_refl _ | exact Nat.zero_le _ | (dsimp only; omega))⟩) hS (fun G84 H locs hp84 hR hS => ?_)
          obtain ⟨V84, rfl, hs84, hst⟩ := hp84
          have ht := ht.to hs84 (by decide) (by decide)
          obtain ⟨e1, e2⟩ := pNu_go (less := pNg cs (pPl ps)) (ps := pN0 cs ps) rfl rfl
          refine lv_iload_n hx hb dX2_tenths_87 rfl (lv_at hl 2 rfl) ?_
          refine lv_if_eq (tgt := 101) hx hb dX2_tenths_88 (by decide) (fun c88 => ?_) (fun c88 => ?_)
          · refine lv_bipush (v := (10 : Int32)) hx hb dX2_tenths_101 (by decide) ?_
            refine lv_iload_n hx hb dX2_tenths_103 rfl (lv_at hl 1 rfl) ?_
            refine lv_imul hx hb dX2_tenths_104 ?_
            refine lv_iload_n hx hb dX2_tenths_105 rfl (lv_at hl 0 rfl) ?_
            refine lv_iadd hx hb dX2_tenths_106 ?_
            exact g_iret M hr hlk hR hS (by omega) (by omega) dX2_tenths_107 (⟨_, rfl, (tQ.trans (tQ.trans (tQ.trans (tQ.trans tQ.rf hq37 (by decide)) hs42 (by decide)) hs61 (by decide)) hs84 (by decide)), by rw [pNm_go, e1]; exact hst, fun v9 h9 => by rw [pNm_go] at h9; obtain ⟨u9, hu9, rfl⟩ := e2 v9 h9; rw [hv42 u9 hu9, if_neg (by rw [bI_0.mp c88]; decide)]⟩)
          · refine lv_bipush (v := (10 : Int32)) hx hb dX2_tenths_91 (by decide) ?_
            refine lv_iload_n hx hb dX2_tenths_93 rfl (lv_at hl 1 rfl) ?_
            refine lv_imul hx hb dX2_tenths_94 ?_
            refine lv_iload_n hx hb dX2_tenths_95 rfl (lv_at hl 0 rfl) ?_
            refine lv_iadd hx hb dX2_tenths_96 ?_
            refine lv_ineg hx hb dX2_tenths_97 ?_
            refine lv_goto (tgt := 107) hx hb dX2_tenths_98 (by decide) ?_
            exact g_iret M hr hlk hR hS (by omega) (by omega) dX2_tenths_107 (⟨_, rfl, (tQ.trans (tQ.trans (tQ.trans (tQ.trans tQ.rf hq37 (by decide)) hs42 (by decide)) hs61 (by decide)) hs84 (by decide)), by rw [pNm_go, e1]; exact hst, fun v9 h9 => by rw [pNm_go] at h9; obtain ⟨u9, hu9, rfl⟩ := e2 v9 h9; rw [hv42 u9 hu9, if_pos (bI_n0.mp c88)]⟩)
        · refine lv_iconst (v := (1 : Int32)) hx hb dX2_tenths_56 (by decide) ?_
          refine lv_goto (tgt := 61) hx hb dX2_tenths_57 (by decide) ?_
          refine g_topi (bI (decide (pC cs (pPl (pPo (pGo (pDs cs 3) (pN0 cs ps)))) = 46))) (by rw [decide_eq_true c53]; rfl) ?_
          refine g_kv (g_V (As := [_]) M hR hS (c_X2_must l K hA ht hst (decide (pC cs (pPl (pPo (pGo (pDs cs 3) (pN0 cs ps)))) = 46)) (fun a h1 h2 => pC_lt (by have h2 := of_decide_eq_true h2; rw [h1] at h2; have h2 : pC cs a = 46 := h2; rw [h2]; decide))) (lw_V q1230 q1232 qs39 q73 q1233) 1 md_X2_must rfl ⟨rfl, rfl⟩ ⟨Nat.le_of_ble_eq_true rfl, Nat.le_of_ble_eq_true rfl⟩ (hR.recv M (tG_0 hA) rfl) rfl hl.1 rfl (lv_room (Nat.le_of_ble_eq_true rfl)) dX2_tenths_61 ⟨(by first | exact Nat.le_refl _ | exact Nat.zero_le _ | (dsimp only; omega)), (by first | exact Nat.le_refl _ | exact Nat.zero_le _ | (dsimp only; omega))⟩) hS (fun G61 H locs hp61 hR hS => ?_)
          obtain ⟨V61, rfl, hs61, hst⟩ := hp61
          have ht := ht.to hs61 (by decide) (by decide)
          refine lv_aload_n hx hb dX2_tenths_64 rfl (lv_at hl 2 rfl) ?_
          refine g_ki (g_V (As := []) M hR hS (c_X2_look l K hA ht hst) (lw_V q1226 q1228 qs38 q73 q1229) 0 md_X2_look rfl ⟨rfl, rfl⟩ ⟨Nat.le_of_ble_eq_true rfl, Nat.le_of_ble_eq_true rfl⟩ (hR.recv M (tG_0 hA) rfl) rfl hl.1 rfl (lv_room (Nat.le_of_ble_eq_true rfl)) dX2_tenths_65 ⟨(by first | exact Nat.le_refl _ | exact Nat.zero_le _ | (dsimp only; omega)), (by first | exact Nat.le_refl _ | exact Nat.zero_le _ | (dsimp only; omega))⟩) hS (fun r65 G65 H locs hp65 hR hS => ?_)
          obtain ⟨rfl, rfl⟩ := hp65
          refine lv_bipush (v := (48 : Int32)) hx hb dX2_tenths_68 (by decide) ?_
          refine lv_isub hx hb dX2_tenths_70 ?_
          refine lv_istore_n (lv' := [(3, _), (2, _), (1, _), (0, _)]) hx hb dX2_tenths_71 rfl hl (by decide) rfl (fun ls hl => ?_)
          refine lv_aload_n hx hb dX2_tenths_72 rfl (lv_at hl 3 rfl) ?_
          refine lv_aload_n hx hb dX2_tenths_73 rfl (lv_at hl 3 rfl) ?_
          refine g_ki (g_V (As := []) M hR hS (c_X2_look l K hA ht hst) (lw_V q1226 q1228 qs38 q73 q1229) 0 md_X2_look rfl ⟨rfl, rfl⟩ ⟨Nat.le_of_ble_eq_true rfl, Nat.le_of_ble_eq_true rfl⟩ (hR.recv M (tG_0 hA) rfl) rfl hl.1 rfl (lv_room (Nat.le_of_ble_eq_true rfl)) dX2_tenths_74 ⟨(by first | exact Nat.le_refl _ | exact Nat.zero_le _ | (dsimp only; omega)), (by first | exact Nat.le_refl _ | exact Nat.zero_le _ | (dsimp only; omega))⟩) hS (fun r74 G74 H locs hp74 hR hS => ?_)
          obtain ⟨rfl, rfl⟩ := hp74
          refine lv_bipush (v := (48 : Int32)) hx hb dX2_tenths_77 (by decide) ?_
          refine lv_bipush (v := (57 : Int32)) hx hb dX2_tenths_79 (by decide) ?_
          refine g_ki (g_S (As := [_, _, _]) M hR hS (c_X2_in l K _ _ _) (lw_S q1098 q1099 q73 q1100) 3 md_X2_in ⟨rfl, rfl⟩ ⟨Nat.le_of_ble_eq_true rfl, Nat.le_of_ble_eq_true rfl⟩ rfl hl.1 rfl (lv_room (Nat.le_of_ble_eq_true rfl)) dX2_tenths_81 ⟨(by first | exact Nat.le_refl _ | exact Nat.zero_le _ | (dsimp only; omega)), (by first | exact Nat.le_refl _ | exact Nat.zero_le _ | (dsimp only; omega))⟩) hS (fun r81 G81 H locs hp81 hR hS => ?_)
          obtain ⟨rfl, e0⟩ := hp81
          rw [e0] at hR
          refine g_kv (g_V (As := [_]) M hR hS (c_X2_must l K hA ht hst (pDi cs (pPl (pMu (decide (pC cs (pPl (pPo (pGo (pDs cs 3) (pN0 cs ps)))) = 46)) (pPo (pGo (pDs cs 3) (pN0 cs ps)))))) (fun a h1 h2 => by rw [h1] at h2; exact pDi_lt h2)) (lw_V q1230 q1232 qs39 q73 q1233) 1 md_X2_must rfl ⟨rfl, rfl⟩ ⟨Nat.le_of_ble_eq_true rfl, Nat.le_of_ble_eq_true rfl⟩ (hR.recv M (tG_0 hA) rfl) rfl hl.1 rfl (lv_room (Nat.le_of_ble_eq_true rfl)) dX2_tenths_84 ⟨(by first | exact Nat.le_refl _ | exact Nat.zero_le _ | (dsimp only; omega)), (by first | exact Nat.le_refl _ | exact Nat.zero_le _ | (dsimp only; omega))⟩) hS (fun G84 H locs hp84 hR hS => ?_)
          obtain ⟨V84, rfl, hs84, hst⟩ := hp84
          have ht := ht.to hs84 (by decide) (by decide)
          obtain ⟨e1, e2⟩ := pNu_go (less := pNg cs (pPl ps)) (ps := pN0 cs ps) rfl rfl
          refine lv_iload_n hx hb dX2_tenths_87 rfl (lv_at hl 2 rfl) ?_
          refine lv_if_eq (tgt := 101) hx hb dX2_tenths_88 (by decide) (fun c88 => ?_) (fun c88 => ?_)
          · refine lv_bipush (v := (10 : Int32)) hx hb dX2_tenths_101 (by decide) ?_
            refine lv_iload_n hx hb dX2_tenths_103 rfl (lv_at hl 1 rfl) ?_
            refine lv_imul hx hb dX2_tenths_104 ?_
            refine lv_iload_n hx hb dX2_tenths_105 rfl (lv_at hl 0 rfl) ?_
            refine lv_iadd hx hb dX2_tenths_106 ?_
            exact g_iret M hr hlk hR hS (by omega) (by omega) dX2_tenths_107 (⟨_, rfl, (tQ.trans (tQ.trans (tQ.trans (tQ.trans tQ.rf hq37 (by decide)) hs42 (by decide)) hs61 (by decide)) hs84 (by decide)), by rw [pNm_go, e1]; exact hst, fun v9 h9 => by rw [pNm_go] at h9; obtain ⟨u9, hu9, rfl⟩ := e2 v9 h9; rw [hv42 u9 hu9, if_neg (by rw [bI_0.mp c88]; decide)]⟩)
          · refine lv_bipush (v := (10 : Int32)) hx hb dX2_tenths_91 (by decide) ?_
            refine lv_iload_n hx hb dX2_tenths_93 rfl (lv_at hl 1 rfl) ?_
            refine lv_imul hx hb dX2_tenths_94 ?_
            refine lv_iload_n hx hb dX2_tenths_95 rfl (lv_at hl 0 rfl) ?_
            refine lv_iadd hx hb dX2_tenths_96 ?_
            refine lv_ineg hx hb dX2_tenths_97 ?_
            refine lv_goto (tgt := 107) hx hb dX2_tenths_98 (by decide) ?_
            exact g_iret M hr hlk hR hS (by omega) (by omega) dX2_tenths_107 (⟨_, rfl, (tQ.trans (tQ.trans (tQ.trans (tQ.trans tQ.rf hq37 (by decide)) hs42 (by decide)) hs61 (by decide)) hs84 (by decide)), by rw [pNm_go, e1]; exact hst, fun v9 h9 => by rw [pNm_go] at h9; obtain ⟨u9, hu9, rfl⟩ := e2 v9 h9; rw [hv42 u9 hu9, if_pos (bI_n0.mp c88)]⟩)
      · refine lv_iconst (v := (1 : Int32)) hx hb dX2_tenths_31 (by decide) ?_
        refine lv_goto (tgt := 36) hx hb dX2_tenths_32 (by decide) ?_
        refine lv_iadd hx hb dX2_tenths_36 ?_
        refine g_topi (nI (pPl (pN0 cs ps))) (by obtain ⟨a9, rfl⟩ := pWr_f (bI_0.mp c28); exact (nI_1 a9).trans (congrArg nI (if_pos (bI_n0.mp c21)).symm)) ?_
        refine t_putQ M hA hR hS 11 (by decide) q1050 ⟨rfl, rfl⟩ rfl rfl dX2_tenths_37 (fun V37 H locs hq37 hw37 hz37 hR hS => ?_)
        have ht := ht.to hq37 (by decide) (by decide)
        have hst : pSt V37 cs (pN0 cs ps) := ⟨hw37, (hq37.fld (by decide)).trans (hst.2.1.trans (by rw [pN0_wr])), pN0_pl hst.2.2⟩
        refine lv_aload_n hx hb dX2_tenths_40 rfl (lv_at hl 1 rfl) ?_
        refine lv_iconst (v := (3 : Int32)) hx hb dX2_tenths_41 (by decide) ?_
        refine g_ki (g_V (As := [_]) M hR hS (c_X2_digits l K hA ht hst (m9 := 3) (by decide) (by decide)) (lw_V q1234 q1236 qs40 q73 q1237) 1 md_X2_digits rfl ⟨rfl, rfl⟩ ⟨Nat.le_of_ble_eq_true rfl, Nat.le_of_ble_eq_true rfl⟩ (hR.recv M (tG_0 hA) rfl) rfl hl.1 rfl (lv_room (Nat.le_of_ble_eq_true rfl)) dX2_tenths_42 ⟨(by first | exact Nat.le_refl _ | exact Nat.zero_le _ | (dsimp only; omega)), (by first | exact Nat.le_refl _ | exact Nat.zero_le _ | (dsimp only; omega))⟩) hS (fun r42 G42 H locs hp42 hR hS => ?_)
        obtain ⟨V42, rfl, hs42, hst, hv42⟩ := hp42
        have ht := ht.to hs42 (by decide) (by decide)
        refine lv_istore_n (lv' := [(2, _), (1, _), (0, _)]) hx hb dX2_tenths_45 rfl hl (by decide) rfl (fun ls hl => ?_)
        refine lv_aload_n hx hb dX2_tenths_46 rfl (lv_at hl 2 rfl) ?_
        refine lv_aload_n hx hb dX2_tenths_47 rfl (lv_at hl 2 rfl) ?_
        refine g_ki (g_V (As := []) M hR hS (c_X2_look l K hA ht hst) (lw_V q1226 q1228 qs38 q73 q1229) 0 md_X2_look rfl ⟨rfl, rfl⟩ ⟨Nat.le_of_ble_eq_true rfl, Nat.le_of_ble_eq_true rfl⟩ (hR.recv M (tG_0 hA) rfl) rfl hl.1 rfl (lv_room (Nat.le_of_ble_eq_true rfl)) dX2_tenths_48 ⟨(by first | exact Nat.le_refl _ | exact Nat.zero_le _ | (dsimp only; omega)), (by first | exact Nat.le_refl _ | exact Nat.zero_le _ | (dsimp only; omega))⟩) hS (fun r48 G48 H locs hp48 hR hS => ?_)
        obtain ⟨rfl, rfl⟩ := hp48
        refine lv_bipush (v := (46 : Int32)) hx hb dX2_tenths_51 (by decide) ?_
        refine lv_icmp_ne (tgt := 60) hx hb dX2_tenths_53 (by decide) (fun c53 => ?_) (fun c53 => ?_)
        · refine lv_iconst (v := (0 : Int32)) hx hb dX2_tenths_60 (by decide) ?_
          refine g_topi (bI (decide (pC cs (pPl (pPo (pGo (pDs cs 3) (pN0 cs ps)))) = 46))) (by rw [decide_eq_false c53]; rfl) ?_
          refine g_kv (g_V (As := [_]) M hR hS (c_X2_must l K hA ht hst (decide (pC cs (pPl (pPo (pGo (pDs cs 3) (pN0 cs ps)))) = 46)) (fun a h1 h2 => pC_lt (by have h2 := of_decide_eq_true h2; rw [h1] at h2; have h2 : pC cs a = 46 := h2; rw [h2]; decide))) (lw_V q1230 q1232 qs39 q73 q1233) 1 md_X2_must rfl ⟨rfl, rfl⟩ ⟨Nat.le_of_ble_eq_true rfl, Nat.le_of_ble_eq_true rfl⟩ (hR.recv M (tG_0 hA) rfl) rfl hl.1 rfl (lv_room (Nat.le_of_ble_eq_true rfl)) dX2_tenths_61 ⟨(by first | exact Nat.le_refl _ | exact Nat.zero_le _ | (dsimp only; omega)), (by first | exact Nat.le_refl _ | exact Nat.zero_le _ | (dsimp only; omega))⟩) hS (fun G61 H locs hp61 hR hS => ?_)
          obtain ⟨V61, rfl, hs61, hst⟩ := hp61
          have ht := ht.to hs61 (by decide) (by decide)
          refine lv_aload_n hx hb dX2_tenths_64 rfl (lv_at hl 2 rfl) ?_
          refine g_ki (g_V (As := []) M hR hS (c_X2_look l K hA ht hst) (lw_V q1226 q1228 qs38 q73 q1229) 0 md_X2_look rfl ⟨rfl, rfl⟩ ⟨Nat.le_of_ble_eq_true rfl, Nat.le_of_ble_eq_true rfl⟩ (hR.recv M (tG_0 hA) rfl) rfl hl.1 rfl (lv_room (Nat.le_of_ble_eq_true rfl)) dX2_tenths_65 ⟨(by first | exact Nat.le_refl _ | exact Nat.zero_le _ | (dsimp only; omega)), (by first | exact Nat.le_refl _ | exact Nat.zero_le _ | (dsimp only; omega))⟩) hS (fun r65 G65 H locs hp65 hR hS => ?_)
          obtain ⟨rfl, rfl⟩ := hp65
          refine lv_bipush (v := (48 : Int32)) hx hb dX2_tenths_68 (by decide) ?_
          refine lv_isub hx hb dX2_tenths_70 ?_
          refine lv_istore_n (lv' := [(3, _), (2, _), (1, _), (0, _)]) hx hb dX2_tenths_71 rfl hl (by decide) rfl (fun ls hl => ?_)
          refine lv_aload_n hx hb dX2_tenths_72 rfl (lv_at hl 3 rfl) ?_
          refine lv_aload_n hx hb dX2_tenths_73 rfl (lv_at hl 3 rfl) ?_
          refine g_ki (g_V (As := []) M hR hS (c_X2_look l K hA ht hst) (lw_V q1226 q1228 qs38 q73 q1229) 0 md_X2_look rfl ⟨rfl, rfl⟩ ⟨Nat.le_of_ble_eq_true rfl, Nat.le_of_ble_eq_true rfl⟩ (hR.recv M (tG_0 hA) rfl) rfl hl.1 rfl (lv_room (Nat.le_of_ble_eq_true rfl)) dX2_tenths_74 ⟨(by first | exact Nat.le_refl _ | exact Nat.zero_le _ | (dsimp only; omega)), (by first | exact Nat.le_refl _ | exact Nat.zero_le _ | (dsimp only; omega))⟩) hS (fun r74 G74 H locs hp74 hR hS => ?_)
          obtain ⟨rfl, rfl⟩ := hp74
          refine lv_bipush (v := (48 : Int32)) hx hb dX2_tenths_77 (by decide) ?_
          refine lv_bipush (v := (57 : Int32)) hx hb dX2_tenths_79 (by decide) ?_
          refine g_ki (g_S (As := [_, _, _]) M hR hS (c_X2_in l K _ _ _) (lw_S q1098 q1099 q73 q1100) 3 md_X2_in ⟨rfl, rfl⟩ ⟨Nat.le_of_ble_eq_true rfl, Nat.le_of_ble_eq_true rfl⟩ rfl hl.1 rfl (lv_room (Nat.le_of_ble_eq_true rfl)) dX2_tenths_81 ⟨(by first | exact Nat.le_refl _ | exact Nat.zero_le _ | (dsimp only; omega)), (by first | exact Nat.le_refl _ | exact Nat.zero_le _ | (dsimp only; omega))⟩) hS (fun r81 G81 H locs hp81 hR hS => ?_)
          obtain ⟨rfl, e0⟩ := hp81
          rw [e0] at hR
          refine g_kv (g_V (As := [_]) M hR hS (c_X2_must l K hA ht hst (pDi cs (pPl (pMu (decide (pC cs (pPl (pPo (pGo (pDs cs 3) (pN0 cs ps)))) = 46)) (pPo (pGo (pDs cs 3) (pN0 cs ps)))))) (fun a h1 h2 => by rw [h1] at h2; exact pDi_lt h2)) (lw_V q1230 q1232 qs39 q73 q1233) 1 md_X2_must rfl ⟨rfl, rfl⟩ ⟨Nat.le_of_ble_eq_true rfl, Nat.le_of_ble_eq_true rfl⟩ (hR.recv M (tG_0 hA) rfl) rfl hl.1 rfl (lv_room (Nat.le_of_ble_eq_true rfl)) dX2_tenths_84 ⟨(by first | exact Nat.le_refl _ | exact Nat.zero_le _ | (dsimp only; omega)), (by first | exact Nat.le_refl _ | exact Nat.zero_le _ | (dsimp only; omega))⟩) hS (fun G84 H locs hp84 hR hS => ?_)
          obtain ⟨V84, rfl, hs84, hst⟩ := hp84
          have ht := ht.to hs84 (by decide) (by decide)
          obtain ⟨e1, e2⟩ := pNu_go (less := pNg cs (pPl ps)) (ps := pN0 cs ps) rfl rfl
          refine lv_iload_n hx hb dX2_tenths_87 rfl (lv_at hl 2 rfl) ?_
          refine lv_if_eq (tgt := 101) hx hb dX2_tenths_88 (by decide) (fun c88 => ?_) (fun c88 => ?_)
          · refine lv_bipush (v := (10 : Int32)) hx hb dX2_tenths_101 (by decide) ?_
            refine lv_iload_n hx hb dX2_tenths_103 rfl (lv_at hl 1 rfl) ?_
            refine lv_imul hx hb dX2_tenths_104 ?_
            refine lv_iload_n hx hb dX2_tenths_105 rfl (lv_at hl 0 rfl) ?_
            refine lv_iadd hx hb dX2_tenths_106 ?_
            exact g_iret M hr hlk hR hS (by omega) (by omega) dX2_tenths_107 (⟨_, rfl, (tQ.trans (tQ.trans (tQ.trans (tQ.trans tQ.rf hq37 (by decide)) hs42 (by decide)) hs61 (by decide)) hs84 (by decide)), by rw [pNm_go, e1]; exact hst, fun v9 h9 => by rw [pNm_go] at h9; obtain ⟨u9, hu9, rfl⟩ := e2 v9 h9; rw [hv42 u9 hu9, if_neg (by rw [bI_0.mp c88]; decide)]⟩)
          · refine lv_bipush (v := (10 : Int32)) hx hb dX2_tenths_91 (by decide) ?_
            refine lv_iload_n hx hb dX2_tenths_93 rfl (lv_at hl 1 rfl) ?_
            refine lv_imul hx hb dX2_tenths_94 ?_
            refine lv_iload_n hx hb dX2_tenths_95 rfl (lv_at hl 0 rfl) ?_
            refine lv_iadd hx hb dX2_tenths_96 ?_
            refine lv_ineg hx hb dX2_tenths_97 ?_
            refine lv_goto (tgt := 107) hx hb dX2_tenths_98 (by decide) ?_
            exact g_iret M hr hlk hR hS (by omega) (by omega) dX2_tenths_107 (⟨_, rfl, (tQ.trans (tQ.trans (tQ.trans (tQ.trans tQ.rf hq37 (by decide)) hs42 (by decide)) hs61 (by decide)) hs84 (by decide)), by rw [pNm_go, e1]; exact hst, fun v9 h9 => by rw [pNm_go] at h9; obtain ⟨u9, hu9, rfl⟩ := e2 v9 h9; rw [hv42 u9 hu9, if_pos (bI_n0.mp c88)]⟩)
        · refine lv_iconst (v := (1 : Int32)) hx hb dX2_tenths_56 (by decide) ?_
          refine lv_goto (tgt := 61) hx hb dX2_tenths_57 (by decide) ?_
          refine g_topi (bI (decide (pC cs (pPl (pPo (pGo (pDs cs 3) (pN0 cs ps)))) = 46))) (by rw [decide_eq_true c53]; rfl) ?_
          refine g_kv (g_V (As := [_]) M hR hS (c_X2_must l K hA ht hst (decide (pC cs (pPl (pPo (pGo (pDs cs 3) (pN0 cs ps)))) = 46)) (fun a h1 h2 => pC_lt (by have h2 := of_decide_eq_true h2; rw [h1] at h2; have h2 : pC cs a = 46 := h2; rw [h2]; decide))) (lw_V q1230 q1232 qs39 q73 q1233) 1 md_X2_must rfl ⟨rfl, rfl⟩ ⟨Nat.le_of_ble_eq_true rfl, Nat.le_of_ble_eq_true rfl⟩ (hR.recv M (tG_0 hA) rfl) rfl hl.1 rfl (lv_room (Nat.le_of_ble_eq_true rfl)) dX2_tenths_61 ⟨(by first | exact Nat.le_refl _ | exact Nat.zero_le _ | (dsimp only; omega)), (by first | exact Nat.le_refl _ | exact Nat.zero_le _ | (dsimp only; omega))⟩) hS (fun G61 H locs hp61 hR hS => ?_)
          obtain ⟨V61, rfl, hs61, hst⟩ := hp61
          have ht := ht.to hs61 (by decide) (by decide)
          refine lv_aload_n hx hb dX2_tenths_64 rfl (lv_at hl 2 rfl) ?_
          refine g_ki (g_V (As := []) M hR hS (c_X2_look l K hA ht hst) (lw_V q1226 q1228 qs38 q73 q1229) 0 md_X2_look rfl ⟨rfl, rfl⟩ ⟨Nat.le_of_ble_eq_true rfl, Nat.le_of_ble_eq_true rfl⟩ (hR.recv M (tG_0 hA) rfl) rfl hl.1 rfl (lv_room (Nat.le_of_ble_eq_true rfl)) dX2_tenths_65 ⟨(by first | exact Nat.le_refl _ | exact Nat.zero_le _ | (dsimp only; omega)), (by first | exact Nat.le_refl _ | exact Nat.zero_le _ | (dsimp only; omega))⟩) hS (fun r65 G65 H locs hp65 hR hS => ?_)
          obtain ⟨rfl, rfl⟩ := hp65
          refine lv_bipush (v := (48 : Int32)) hx hb dX2_tenths_68 (by decide) ?_
          refine lv_isub hx hb dX2_tenths_70 ?_
          refine lv_istore_n (lv' := [(3, _), (2, _), (1, _), (0, _)]) hx hb dX2_tenths_71 rfl hl (by decide) rfl (fun ls hl => ?_)
          refine lv_aload_n hx hb dX2_tenths_72 rfl (lv_at hl 3 rfl) ?_
          refine lv_aload_n hx hb dX2_tenths_73 rfl (lv_at hl 3 rfl) ?_
          refine g_ki (g_V (As := []) M hR hS (c_X2_look l K hA ht hst) (lw_V q1226 q1228 qs38 q73 q1229) 0 md_X2_look rfl ⟨rfl, rfl⟩ ⟨Nat.le_of_ble_eq_true rfl, Nat.le_of_ble_eq_true rfl⟩ (hR.recv M (tG_0 hA) rfl) rfl hl.1 rfl (lv_room (Nat.le_of_ble_eq_true rfl)) dX2_tenths_74 ⟨(by first | exact Nat.le_refl _ | exact Nat.zero_le _ | (dsimp only; omega)), (by first | exact Nat.le_refl _ | exact Nat.zero_le _ | (dsimp only; omega))⟩) hS (fun r74 G74 H locs hp74 hR hS => ?_)
          obtain ⟨rfl, rfl⟩ := hp74
          refine lv_bipush (v := (48 : Int32)) hx hb dX2_tenths_77 (by decide) ?_
          refine lv_bipush (v := (57 : Int32)) hx hb dX2_tenths_79 (by decide) ?_
          refine g_ki (g_S (As := [_, _, _]) M hR hS (c_X2_in l K _ _ _) (lw_S q1098 q1099 q73 q1100) 3 md_X2_in ⟨rfl, rfl⟩ ⟨Nat.le_of_ble_eq_true rfl, Nat.le_of_ble_eq_true rfl⟩ rfl hl.1 rfl (lv_room (Nat.le_of_ble_eq_true rfl)) dX2_tenths_81 ⟨(by first | exact Nat.le_refl _ | exact Nat.zero_le _ | (dsimp only; omega)), (by first | exact Nat.le_refl _ | exact Nat.zero_le _ | (dsimp only; omega))⟩) hS (fun r81 G81 H locs hp81 hR hS => ?_)
          obtain ⟨rfl, e0⟩ := hp81
          rw [e0] at hR
          refine g_kv (g_V (As := [_]) M hR hS (c_X2_must l K hA ht hst (pDi cs (pPl (pMu (decide (pC cs (pPl (pPo (pGo (pDs cs 3) (pN0 cs ps)))) = 46)) (pPo (pGo (pDs cs 3) (pN0 cs ps)))))) (fun a h1 h2 => by rw [h1] at h2; exact pDi_lt h2)) (lw_V q1230 q1232 qs39 q73 q1233) 1 md_X2_must rfl ⟨rfl, rfl⟩ ⟨Nat.le_of_ble_eq_true rfl, Nat.le_of_ble_eq_true rfl⟩ (hR.recv M (tG_0 hA) rfl) rfl hl.1 rfl (lv_room (Nat.le_of_ble_eq_true rfl)) dX2_tenths_84 ⟨(by first | exact Nat.le_refl _ | exact Nat.zero_le _ | (dsimp only; omega)), (by first | exact Nat.le_refl _ | exact Nat.zero_le _ | (dsimp only; omega))⟩) hS (fun G84 H locs hp84 hR hS => ?_)
          obtain ⟨V84, rfl, hs84, hst⟩ := hp84
          have ht := ht.to hs84 (by decide) (by decide)
          obtain ⟨e1, e2⟩ := pNu_go (less := pNg cs (pPl ps)) (ps := pN0 cs ps) rfl rfl
          refine lv_iload_n hx hb dX2_tenths_87 rfl (lv_at hl 2 rfl) ?_
          refine lv_if_eq (tgt := 101) hx hb dX2_tenths_88 (by decide) (fun c88 => ?_) (fun c88 => ?_)
          · refine lv_bipush (v := (10 : Int32)) hx hb dX2_tenths_101 (by decide) ?_
            refine lv_iload_n hx hb dX2_tenths_103 rfl (lv_at hl 1 rfl) ?_
            refine lv_imul hx hb dX2_tenths_104 ?_
            refine lv_iload_n hx hb dX2_tenths_105 rfl (lv_at hl 0 rfl) ?_
            refine lv_iadd hx hb dX2_tenths_106 ?_
            exact g_iret M hr hlk hR hS (by omega) (by omega) dX2_tenths_107 (⟨_, rfl, (tQ.trans (tQ.trans (tQ.trans (tQ.trans tQ.rf hq37 (by decide)) hs42 (by decide)) hs61 (by decide)) hs84 (by decide)), by rw [pNm_go, e1]; exact hst, fun v9 h9 => by rw [pNm_go] at h9; obtain ⟨u9, hu9, rfl⟩ := e2 v9 h9; rw [hv42 u9 hu9, if_neg (by rw [bI_0.mp c88]; decide)]⟩)
          · refine lv_bipush (v := (10 : Int32)) hx hb dX2_tenths_91 (by decide) ?_
            refine lv_iload_n hx hb dX2_tenths_93 rfl (lv_at hl 1 rfl) ?_
            refine lv_imul hx hb dX2_tenths_94 ?_
            refine lv_iload_n hx hb dX2_tenths_95 rfl (lv_at hl 0 rfl) ?_
            refine lv_iadd hx hb dX2_tenths_96 ?_
            refine lv_ineg hx hb dX2_tenths_97 ?_
            refine lv_goto (tgt := 107) hx hb dX2_tenths_98 (by decide) ?_
            exact g_iret M hr hlk hR hS (by omega) (by omega) dX2_tenths_107 (⟨_, rfl, (tQ.trans (tQ.trans (tQ.trans (tQ.trans tQ.rf hq37 (by decide)) hs42 (by decide)) hs61 (by decide)) hs84 (by decide)), by rw [pNm_go, e1]; exact hst, fun v9 h9 => by rw [pNm_go] at h9; obtain ⟨u9, hu9, rfl⟩ := e2 v9 h9; rw [hv42 u9 hu9, if_pos (bI_n0.mp c88)]⟩)
  · refine lv_iconst (v := (1 : Int32)) hx hb dX2_tenths_9 (by decide) ?_
    refine lv_goto (tgt := 14) hx hb dX2_tenths_10 (by decide) ?_
    refine g_topi (bI (pNg cs (pPl ps))) (by unfold pNg; rw [decide_eq_true c6]; rfl) ?_
    refine lv_istore_n (lv' := [(1, _), (0, _)]) hx hb dX2_tenths_14 rfl hl (by decide) rfl (fun ls hl => ?_)
    refine lv_aload_n hx hb dX2_tenths_15 rfl (lv_at hl 1 rfl) ?_
    refine lv_dup hx hb dX2_tenths_16 rfl ?_
    refine t_getE M hA hR 11 (by decide) (hst.1) q1050 rfl dX2_tenths_17 ?_
    refine lv_iload_n hx hb dX2_tenths_20 rfl (lv_at hl 0 rfl) ?_
    refine lv_if_eq (tgt := 35) hx hb dX2_tenths_21 (by decide) (fun c21 => ?_) (fun c21 => ?_)
    · refine lv_iconst (v := (0 : Int32)) hx hb dX2_tenths_35 (by decide) ?_
      refine lv_iadd hx hb dX2_tenths_36 ?_
      refine g_topi (nI (pPl (pN0 cs ps))) (by cases ps with | inl p => exact Int32.add_zero _ | inr a => exact (Int32.add_zero _).trans (congrArg nI (if_neg (by have h0 : pNg cs a = false := bI_0.mp c21; rw [h0]; decide)).symm)) ?_
      refine t_putQ M hA hR hS 11 (by decide) q1050 ⟨rfl, rfl⟩ rfl rfl dX2_tenths_37 (fun V37 H locs hq37 hw37 hz37 hR hS => ?_)
      have ht := ht.to hq37 (by decide) (by decide)
      have hst : pSt V37 cs (pN0 cs ps) := ⟨hw37, (hq37.fld (by decide)).trans (hst.2.1.trans (by rw [pN0_wr])), pN0_pl hst.2.2⟩
      refine lv_aload_n hx hb dX2_tenths_40 rfl (lv_at hl 1 rfl) ?_
      refine lv_iconst (v := (3 : Int32)) hx hb dX2_tenths_41 (by decide) ?_
      refine g_ki (g_V (As := [_]) M hR hS (c_X2_digits l K hA ht hst (m9 := 3) (by decide) (by decide)) (lw_V q1234 q1236 qs40 q73 q1237) 1 md_X2_digits rfl ⟨rfl, rfl⟩ ⟨Nat.le_of_ble_eq_true rfl, Nat.le_of_ble_eq_true rfl⟩ (hR.recv M (tG_0 hA) rfl) rfl hl.1 rfl (lv_room (Nat.le_of_ble_eq_true rfl)) dX2_tenths_42 ⟨(by first | exact Nat.le_refl _ | exact Nat.zero_le _ | (dsimp only; omega)), (by first | exact Nat.le_refl _ | exact Nat.zero_le _ | (dsimp only; omega))⟩) hS (fun r42 G42 H locs hp42 hR hS => ?_)
      obtain ⟨V42, rfl, hs42, hst, hv42⟩ := hp42
      have ht := ht.to hs42 (by decide) (by decide)
      refine lv_istore_n (lv' := [(2, _), (1, _), (0, _)]) hx hb dX2_tenths_45 rfl hl (by decide) rfl (fun ls hl => ?_)
      refine lv_aload_n hx hb dX2_tenths_46 rfl (lv_at hl 2 rfl) ?_
      refine lv_aload_n hx hb dX2_tenths_47 rfl (lv_at hl 2 rfl) ?_
      refine g_ki (g_V (As := []) M hR hS (c_X2_look l K hA ht hst) (lw_V q1226 q1228 qs38 q73 q1229) 0 md_X2_look rfl ⟨rfl, rfl⟩ ⟨Nat.le_of_ble_eq_true rfl, Nat.le_of_ble_eq_true rfl⟩ (hR.recv M (tG_0 hA) rfl) rfl hl.1 rfl (lv_room (Nat.le_of_ble_eq_true rfl)) dX2_tenths_48 ⟨(by first | exact Nat.le_refl _ | exact Nat.zero_le _ | (dsimp only; omega)), (by first | exact Nat.le_refl _ | exact Nat.zero_le _ | (dsimp only; omega))⟩) hS (fun r48 G48 H locs hp48 hR hS => ?_)
      obtain ⟨rfl, rfl⟩ := hp48
      refine lv_bipush (v := (46 : Int32)) hx hb dX2_tenths_51 (by decide) ?_
      refine lv_icmp_ne (tgt := 60) hx hb dX2_tenths_53 (by decide) (fun c53 => ?_) (fun c53 => ?_)
      · refine lv_iconst (v := (0 : Int32)) hx hb dX2_tenths_60 (by decide) ?_
        refine g_topi (bI (decide (pC cs (pPl (pPo (pGo (pDs cs 3) (pN0 cs ps)))) = 46))) (by rw [decide_eq_false c53]; rfl) ?_
        refine g_kv (g_V (As := [_]) M hR hS (c_X2_must l K hA ht hst (decide (pC cs (pPl (pPo (pGo (pDs cs 3) (pN0 cs ps)))) = 46)) (fun a h1 h2 => pC_lt (by have h2 := of_decide_eq_true h2; rw [h1] at h2; have h2 : pC cs a = 46 := h2; rw [h2]; decide))) (lw_V q1230 q1232 qs39 q73 q1233) 1 md_X2_must rfl ⟨rfl, rfl⟩ ⟨Nat.le_of_ble_eq_true rfl, Nat.le_of_ble_eq_true rfl⟩ (hR.recv M (tG_0 hA) rfl) rfl hl.1 rfl (lv_room (Nat.le_of_ble_eq_true rfl)) dX2_tenths_61 ⟨(by first | exact Nat.le_refl _ | exact Nat.zero_le _ | (dsimp only; omega)), (by first | exact Nat.le_refl _ | exact Nat.zero_le _ | (dsimp only; omega))⟩) hS (fun G61 H locs hp61 hR hS => ?_)
        obtain ⟨V61, rfl, hs61, hst⟩ := hp61
        have ht := ht.to hs61 (by decide) (by decide)
        refine lv_aload_n hx hb dX2_tenths_64 rfl (lv_at hl 2 rfl) ?_
        refine g_ki (g_V (As := []) M hR hS (c_X2_look l K hA ht hst) (lw_V q1226 q1228 qs38 q73 q1229) 0 md_X2_look rfl ⟨rfl, rfl⟩ ⟨Nat.le_of_ble_eq_true rfl, Nat.le_of_ble_eq_true rfl⟩ (hR.recv M (tG_0 hA) rfl) rfl hl.1 rfl (lv_room (Nat.le_of_ble_eq_true rfl)) dX2_tenths_65 ⟨(by first | exact Nat.le_refl _ | exact Nat.zero_le _ | (dsimp only; omega)), (by first | exact Nat.le_refl _ | exact Nat.zero_le _ | (dsimp only; omega))⟩) hS (fun r65 G65 H locs hp65 hR hS => ?_)
        obtain ⟨rfl, rfl⟩ := hp65
        refine lv_bipush (v := (48 : Int32)) hx hb dX2_tenths_68 (by decide) ?_
        refine lv_isub hx hb dX2_tenths_70 ?_
        refine lv_istore_n (lv' := [(3, _), (2, _), (1, _), (0, _)]) hx hb dX2_tenths_71 rfl hl (by decide) rfl (fun ls hl => ?_)
        refine lv_aload_n hx hb dX2_tenths_72 rfl (lv_at hl 3 rfl) ?_
        refine lv_aload_n hx hb dX2_tenths_73 rfl (lv_at hl 3 rfl) ?_
        refine g_ki (g_V (As := []) M hR hS (c_X2_look l K hA ht hst) (lw_V q1226 q1228 qs38 q73 q1229) 0 md_X2_look rfl ⟨rfl, rfl⟩ ⟨Nat.le_of_ble_eq_true rfl, Nat.le_of_ble_eq_true rfl⟩ (hR.recv M (tG_0 hA) rfl) rfl hl.1 rfl (lv_room (Nat.le_of_ble_eq_true rfl)) dX2_tenths_74 ⟨(by first | exact Nat.le_refl _ | exact Nat.zero_le _ | (dsimp only; omega)), (by first | exact Nat.le_refl _ | exact Nat.zero_le _ | (dsimp only; omega))⟩) hS (fun r74 G74 H locs hp74 hR hS => ?_)
        obtain ⟨rfl, rfl⟩ := hp74
        refine lv_bipush (v := (48 : Int32)) hx hb dX2_tenths_77 (by decide) ?_
        refine lv_bipush (v := (57 : Int32)) hx hb dX2_tenths_79 (by decide) ?_
        refine g_ki (g_S (As := [_, _, _]) M hR hS (c_X2_in l K _ _ _) (lw_S q1098 q1099 q73 q1100) 3 md_X2_in ⟨rfl, rfl⟩ ⟨Nat.le_of_ble_eq_true rfl, Nat.le_of_ble_eq_true rfl⟩ rfl hl.1 rfl (lv_room (Nat.le_of_ble_eq_true rfl)) dX2_tenths_81 ⟨(by first | exact Nat.le_refl _ | exact Nat.zero_le _ | (dsimp only; omega)), (by first | exact Nat.le_refl _ | exact Nat.zero_le _ | (dsimp only; omega))⟩) hS (fun r81 G81 H locs hp81 hR hS => ?_)
        obtain ⟨rfl, e0⟩ := hp81
        rw [e0] at hR
        refine g_kv (g_V (As := [_]) M hR hS (c_X2_must l K hA ht hst (pDi cs (pPl (pMu (decide (pC cs (pPl (pPo (pGo (pDs cs 3) (pN0 cs ps)))) = 46)) (pPo (pGo (pDs cs 3) (pN0 cs ps)))))) (fun a h1 h2 => by rw [h1] at h2; exact pDi_lt h2)) (lw_V q1230 q1232 qs39 q73 q1233) 1 md_X2_must rfl ⟨rfl, rfl⟩ ⟨Nat.le_of_ble_eq_true rfl, Nat.le_of_ble_eq_true rfl⟩ (hR.recv M (tG_0 hA) rfl) rfl hl.1 rfl (lv_room (Nat.le_of_ble_eq_true rfl)) dX2_tenths_84 ⟨(by first | exact Nat.le_refl _ | exact Nat.zero_le _ | (dsimp only; omega)), (by first | exact Nat.le_refl _ | exact Nat.zero_le _ | (dsimp only; omega))⟩) hS (fun G84 H locs hp84 hR hS => ?_)
        obtain ⟨V84, rfl, hs84, hst⟩ := hp84
        have ht := ht.to hs84 (by decide) (by decide)
        obtain ⟨e1, e2⟩ := pNu_go (less := pNg cs (pPl ps)) (ps := pN0 cs ps) rfl rfl
        refine lv_iload_n hx hb dX2_tenths_87 rfl (lv_at hl 2 rfl) ?_
        refine lv_if_eq (tgt := 101) hx hb dX2_tenths_88 (by decide) (fun c88 => ?_) (fun c88 => ?_)
        · refine lv_bipush (v := (10 : Int32)) hx hb dX2_tenths_101 (by decide) ?_
          refine lv_iload_n hx hb dX2_tenths_103 rfl (lv_at hl 1 rfl) ?_
          refine lv_imul hx hb dX2_tenths_104 ?_
          refine lv_iload_n hx hb dX2_tenths_105 rfl (lv_at hl 0 rfl) ?_
          refine lv_iadd hx hb dX2_tenths_106 ?_
          exact g_iret M hr hlk hR hS (by omega) (by omega) dX2_tenths_107 (⟨_, rfl, (tQ.trans (tQ.trans (tQ.trans (tQ.trans tQ.rf hq37 (by decide)) hs42 (by decide)) hs61 (by decide)) hs84 (by decide)), by rw [pNm_go, e1]; exact hst, fun v9 h9 => by rw [pNm_go] at h9; obtain ⟨u9, hu9, rfl⟩ := e2 v9 h9; rw [hv42 u9 hu9, if_neg (by rw [bI_0.mp c88]; decide)]⟩)
        · refine lv_bipush (v := (10 : Int32)) hx hb dX2_tenths_91 (by decide) ?_
          refine lv_iload_n hx hb dX2_tenths_93 rfl (lv_at hl 1 rfl) ?_
          refine lv_imul hx hb dX2_tenths_94 ?_
          refine lv_iload_n hx hb dX2_tenths_95 rfl (lv_at hl 0 rfl) ?_
          refine lv_iadd hx hb dX2_tenths_96 ?_
          refine lv_ineg hx hb dX2_tenths_97 ?_
          refine lv_goto (tgt := 107) hx hb dX2_tenths_98 (by decide) ?_
          exact g_iret M hr hlk hR hS (by omega) (by omega) dX2_tenths_107 (⟨_, rfl, (tQ.trans (tQ.trans (tQ.trans (tQ.trans tQ.rf hq37 (by decide)) hs42 (by decide)) hs61 (by decide)) hs84 (by decide)), by rw [pNm_go, e1]; exact hst, fun v9 h9 => by rw [pNm_go] at h9; obtain ⟨u9, hu9, rfl⟩ := e2 v9 h9; rw [hv42 u9 hu9, if_pos (bI_n0.mp c88)]⟩)
      · refine lv_iconst (v := (1 : Int32)) hx hb dX2_tenths_56 (by decide) ?_
        refine lv_goto (tgt := 61) hx hb dX2_tenths_57 (by decide) ?_
        refine g_topi (bI (decide (pC cs (pPl (pPo (pGo (pDs cs 3) (pN0 cs ps)))) = 46))) (by rw [decide_eq_true c53]; rfl) ?_
        refine g_kv (g_V (As := [_]) M hR hS (c_X2_must l K hA ht hst (decide (pC cs (pPl (pPo (pGo (pDs cs 3) (pN0 cs ps)))) = 46)) (fun a h1 h2 => pC_lt (by have h2 := of_decide_eq_true h2; rw [h1] at h2; have h2 : pC cs a = 46 := h2; rw [h2]; decide))) (lw_V q1230 q1232 qs39 q73 q1233) 1 md_X2_must rfl ⟨rfl, rfl⟩ ⟨Nat.le_of_ble_eq_true rfl, Nat.le_of_ble_eq_true rfl⟩ (hR.recv M (tG_0 hA) rfl) rfl hl.1 rfl (lv_room (Nat.le_of_ble_eq_true rfl)) dX2_tenths_61 ⟨(by first | exact Nat.le_refl _ | exact Nat.zero_le _ | (dsimp only; omega)), (by first | exact Nat.le_refl _ | exact Nat.zero_le _ | (dsimp only; omega))⟩) hS (fun G61 H locs hp61 hR hS => ?_)
        obtain ⟨V61, rfl, hs61, hst⟩ := hp61
        have ht := ht.to hs61 (by decide) (by decide)
        refine lv_aload_n hx hb dX2_tenths_64 rfl (lv_at hl 2 rfl) ?_
        refine g_ki (g_V (As := []) M hR hS (c_X2_look l K hA ht hst) (lw_V q1226 q1228 qs38 q73 q1229) 0 md_X2_look rfl ⟨rfl, rfl⟩ ⟨Nat.le_of_ble_eq_true rfl, Nat.le_of_ble_eq_true rfl⟩ (hR.recv M (tG_0 hA) rfl) rfl hl.1 rfl (lv_room (Nat.le_of_ble_eq_true rfl)) dX2_tenths_65 ⟨(by first | exact Nat.le_refl _ | exact Nat.zero_le _ | (dsimp only; omega)), (by first | exact Nat.le_refl _ | exact Nat.zero_le _ | (dsimp only; omega))⟩) hS (fun r65 G65 H locs hp65 hR hS => ?_)
        obtain ⟨rfl, rfl⟩ := hp65
        refine lv_bipush (v := (48 : Int32)) hx hb dX2_tenths_68 (by decide) ?_
        refine lv_isub hx hb dX2_tenths_70 ?_
        refine lv_istore_n (lv' := [(3, _), (2, _), (1, _), (0, _)]) hx hb dX2_tenths_71 rfl hl (by decide) rfl (fun ls hl => ?_)
        refine lv_aload_n hx hb dX2_tenths_72 rfl (lv_at hl 3 rfl) ?_
        refine lv_aload_n hx hb dX2_tenths_73 rfl (lv_at hl 3 rfl) ?_
        refine g_ki (g_V (As := []) M hR hS (c_X2_look l K hA ht hst) (lw_V q1226 q1228 qs38 q73 q1229) 0 md_X2_look rfl ⟨rfl, rfl⟩ ⟨Nat.le_of_ble_eq_true rfl, Nat.le_of_ble_eq_true rfl⟩ (hR.recv M (tG_0 hA) rfl) rfl hl.1 rfl (lv_room (Nat.le_of_ble_eq_true rfl)) dX2_tenths_74 ⟨(by first | exact Nat.le_refl _ | exact Nat.zero_le _ | (dsimp only; omega)), (by first | exact Nat.le_refl _ | exact Nat.zero_le _ | (dsimp only; omega))⟩) hS (fun r74 G74 H locs hp74 hR hS => ?_)
        obtain ⟨rfl, rfl⟩ := hp74
        refine lv_bipush (v := (48 : Int32)) hx hb dX2_tenths_77 (by decide) ?_
        refine lv_bipush (v := (57 : Int32)) hx hb dX2_tenths_79 (by decide) ?_
        refine g_ki (g_S (As := [_, _, _]) M hR hS (c_X2_in l K _ _ _) (lw_S q1098 q1099 q73 q1100) 3 md_X2_in ⟨rfl, rfl⟩ ⟨Nat.le_of_ble_eq_true rfl, Nat.le_of_ble_eq_true rfl⟩ rfl hl.1 rfl (lv_room (Nat.le_of_ble_eq_true rfl)) dX2_tenths_81 ⟨(by first | exact Nat.le_refl _ | exact Nat.zero_le _ | (dsimp only; omega)), (by first | exact Nat.le_refl _ | exact Nat.zero_le _ | (dsimp only; omega))⟩) hS (fun r81 G81 H locs hp81 hR hS => ?_)
        obtain ⟨rfl, e0⟩ := hp81
        rw [e0] at hR
        refine g_kv (g_V (As := [_]) M hR hS (c_X2_must l K hA ht hst (pDi cs (pPl (pMu (decide (pC cs (pPl (pPo (pGo (pDs cs 3) (pN0 cs ps)))) = 46)) (pPo (pGo (pDs cs 3) (pN0 cs ps)))))) (fun a h1 h2 => by rw [h1] at h2; exact pDi_lt h2)) (lw_V q1230 q1232 qs39 q73 q1233) 1 md_X2_must rfl ⟨rfl, rfl⟩ ⟨Nat.le_of_ble_eq_true rfl, Nat.le_of_ble_eq_true rfl⟩ (hR.recv M (tG_0 hA) rfl) rfl hl.1 rfl (lv_room (Nat.le_of_ble_eq_true rfl)) dX2_tenths_84 ⟨(by first | exact Nat.le_refl _ | exact Nat.zero_le _ | (dsimp only; omega)), (by first | exact Nat.le_refl _ | exact Nat.zero_le _ | (dsimp only; omega))⟩) hS (fun G84 H locs hp84 hR hS => ?_)
        obtain ⟨V84, rfl, hs84, hst⟩ := hp84
        have ht := ht.to hs84 (by decide) (by decide)
        obtain ⟨e1, e2⟩ := pNu_go (less := pNg cs (pPl ps)) (ps := pN0 cs ps) rfl rfl
        refine lv_iload_n hx hb dX2_tenths_87 rfl (lv_at hl 2 rfl) ?_
        refine lv_if_eq (tgt := 101) hx hb dX2_tenths_88 (by decide) (fun c88 => ?_) (fun c88 => ?_)
        · refine lv_bipush (v := (10 : Int32)) hx hb dX2_tenths_101 (by decide) ?_
          refine lv_iload_n hx hb dX2_tenths_103 rfl (lv_at hl 1 rfl) ?_
          refine lv_imul hx hb dX2_tenths_104 ?_
          refine lv_iload_n hx hb dX2_tenths_105 rfl (lv_at hl 0 rfl) ?_
          refine lv_iadd hx hb dX2_tenths_106 ?_
          exact g_iret M hr hlk hR hS (by omega) (by omega) dX2_tenths_107 (⟨_, rfl, (tQ.trans (tQ.trans (tQ.trans (tQ.trans tQ.rf hq37 (by decide)) hs42 (by decide)) hs61 (by decide)) hs84 (by decide)), by rw [pNm_go, e1]; exact hst, fun v9 h9 => by rw [pNm_go] at h9; obtain ⟨u9, hu9, rfl⟩ := e2 v9 h9; rw [hv42 u9 hu9, if_neg (by rw [bI_0.mp c88]; decide)]⟩)
        · refine lv_bipush (v := (10 : Int32)) hx hb dX2_tenths_91 (by decide) ?_
          refine lv_iload_n hx hb dX2_tenths_93 rfl (lv_at hl 1 rfl) ?_
          refine lv_imul hx hb dX2_tenths_94 ?_
          refine lv_iload_n hx hb dX2_tenths_95 rfl (lv_at hl 0 rfl) ?_
          refine lv_iadd hx hb dX2_tenths_96 ?_
          refine lv_ineg hx hb dX2_tenths_97 ?_
          refine lv_goto (tgt := 107) hx hb dX2_tenths_98 (by decide) ?_
          exact g_iret M hr hlk hR hS (by omega) (by omega) dX2_tenths_107 (⟨_, rfl, (tQ.trans (tQ.trans (tQ.trans (tQ.trans tQ.rf hq37 (by decide)) hs42 (by decide)) hs61 (by decide)) hs84 (by decide)), by rw [pNm_go, e1]; exact hst, fun v9 h9 => by rw [pNm_go] at h9; obtain ⟨u9, hu9, rfl⟩ := e2 v9 h9; rw [hv42 u9 hu9, if_pos (bI_n0.mp c88)]⟩)
    · refine lv_aload_n hx hb dX2_tenths_24 rfl (lv_at hl 1 rfl) ?_
      refine t_getE M hA hR 12 (by decide) (hst.2.1) q1051 rfl dX2_tenths_25 ?_
      refine lv_if_ne (tgt := 35) hx hb dX2_tenths_28 (by decide) (fun c28 => ?_) (fun c28 => ?_)
      · refine lv_iconst (v := (0 : Int32)) hx hb dX2_tenths_35 (by decide) ?_
        refine lv_iadd hx hb dX2_tenths_36 ?_
        refine g_topi (nI (pPl (pN0 cs ps))) (by obtain ⟨p9, rfl⟩ := pWr_t (bI_n0.mp c28); exact Int32.add_zero _) ?_
        refine t_putQ M hA hR hS 11 (by decide) q1050 ⟨rfl, rfl⟩ rfl rfl dX2_tenths_37 (fun V37 H locs hq37 hw37 hz37 hR hS => ?_)
        have ht := ht.to hq37 (by decide) (by decide)
        have hst : pSt V37 cs (pN0 cs ps) := ⟨hw37, (hq37.fld (by decide)).trans (hst.2.1.trans (by rw [pN0_wr])), pN0_pl hst.2.2⟩
        refine lv_aload_n hx hb dX2_tenths_40 rfl (lv_at hl 1 rfl) ?_
        refine lv_iconst (v := (3 : Int32)) hx hb dX2_tenths_41 (by decide) ?_
        refine g_ki (g_V (As := [_]) M hR hS (c_X2_digits l K hA ht hst (m9 := 3) (by decide) (by decide)) (lw_V q1234 q1236 qs40 q73 q1237) 1 md_X2_digits rfl ⟨rfl, rfl⟩ ⟨Nat.le_of_ble_eq_true rfl, Nat.le_of_ble_eq_true rfl⟩ (hR.recv M (tG_0 hA) rfl) rfl hl.1 rfl (lv_room (Nat.le_of_ble_eq_true rfl)) dX2_tenths_42 ⟨(by first | exact Nat.le_refl _ | exact Nat.zero_le _ | (dsimp only; omega)), (by first | exact Nat.le_refl _ | exact Nat.zero_le _ | (dsimp only; omega))⟩) hS (fun r42 G42 H locs hp42 hR hS => ?_)
        obtain ⟨V42, rfl, hs42, hst, hv42⟩ := hp42
        have ht := ht.to hs42 (by decide) (by decide)
        refine lv_istore_n (lv' := [(2, _), (1, _), (0, _)]) hx hb dX2_tenths_45 rfl hl (by decide) rfl (fun ls hl => ?_)
        refine lv_aload_n hx hb dX2_tenths_46 rfl (lv_at hl 2 rfl) ?_
        refine lv_aload_n hx hb dX2_tenths_47 rfl (lv_at hl 2 rfl) ?_
        refine g_ki (g_V (As := []) M hR hS (c_X2_look l K hA ht hst) (lw_V q1226 q1228 qs38 q73 q1229) 0 md_X2_look rfl ⟨rfl, rfl⟩ ⟨Nat.le_of_ble_eq_true rfl, Nat.le_of_ble_eq_true rfl⟩ (hR.recv M (tG_0 hA) rfl) rfl hl.1 rfl (lv_room (Nat.le_of_ble_eq_true rfl)) dX2_tenths_48 ⟨(by first | exact Nat.le_refl _ | exact Nat.zero_le _ | (dsimp only; omega)), (by first | exact Nat.le_refl _ | exact Nat.zero_le _ | (dsimp only; omega))⟩) hS (fun r48 G48 H locs hp48 hR hS => ?_)
        obtain ⟨rfl, rfl⟩ := hp48
        refine lv_bipush (v := (46 : Int32)) hx hb dX2_tenths_51 (by decide) ?_
        refine lv_icmp_ne (tgt := 60) hx hb dX2_tenths_53 (by decide) (fun c53 => ?_) (fun c53 => ?_)
        · refine lv_iconst (v := (0 : Int32)) hx hb dX2_tenths_60 (by decide) ?_
          refine g_topi (bI (decide (pC cs (pPl (pPo (pGo (pDs cs 3) (pN0 cs ps)))) = 46))) (by rw [decide_eq_false c53]; rfl) ?_
          refine g_kv (g_V (As := [_]) M hR hS (c_X2_must l K hA ht hst (decide (pC cs (pPl (pPo (pGo (pDs cs 3) (pN0 cs ps)))) = 46)) (fun a h1 h2 => pC_lt (by have h2 := of_decide_eq_true h2; rw [h1] at h2; have h2 : pC cs a = 46 := h2; rw [h2]; decide))) (lw_V q1230 q1232 qs39 q73 q1233) 1 md_X2_must rfl ⟨rfl, rfl⟩ ⟨Nat.le_of_ble_eq_true rfl, Nat.le_of_ble_eq_true rfl⟩ (hR.recv M (tG_0 hA) rfl) rfl hl.1 rfl (lv_room (Nat.le_of_ble_eq_true rfl)) dX2_tenths_61 ⟨(by first | exact Nat.le_refl _ | exact Nat.zero_le _ | (dsimp only; omega)), (by first | exact Nat.le_refl _ | exact Nat.zero_le _ | (dsimp only; omega))⟩) hS (fun G61 H locs hp61 hR hS => ?_)
          obtain ⟨V61, rfl, hs61, hst⟩ := hp61
          have ht := ht.to hs61 (by decide) (by decide)
          refine lv_aload_n hx hb dX2_tenths_64 rfl (lv_at hl 2 rfl) ?_
          refine g_ki (g_V (As := []) M hR hS (c_X2_look l K hA ht hst) (lw_V q1226 q1228 qs38 q73 q1229) 0 md_X2_look rfl ⟨rfl, rfl⟩ ⟨Nat.le_of_ble_eq_true rfl, Nat.le_of_ble_eq_true rfl⟩ (hR.recv M (tG_0 hA) rfl) rfl hl.1 rfl (lv_room (Nat.le_of_ble_eq_true rfl)) dX2_tenths_65 ⟨(by first | exact Nat.le_refl _ | exact Nat.zero_le _ | (dsimp only; omega)), (by first | exact Nat.le_refl _ | exact Nat.zero_le _ | (dsimp only; omega))⟩) hS (fun r65 G65 H locs hp65 hR hS => ?_)
          obtain ⟨rfl, rfl⟩ := hp65
          refine lv_bipush (v := (48 : Int32)) hx hb dX2_tenths_68 (by decide) ?_
          refine lv_isub hx hb dX2_tenths_70 ?_
          refine lv_istore_n (lv' := [(3, _), (2, _), (1, _), (0, _)]) hx hb dX2_tenths_71 rfl hl (by decide) rfl (fun ls hl => ?_)
          refine lv_aload_n hx hb dX2_tenths_72 rfl (lv_at hl 3 rfl) ?_
          refine lv_aload_n hx hb dX2_tenths_73 rfl (lv_at hl 3 rfl) ?_
          refine g_ki (g_V (As := []) M hR hS (c_X2_look l K hA ht hst) (lw_V q1226 q1228 qs38 q73 q1229) 0 md_X2_look rfl ⟨rfl, rfl⟩ ⟨Nat.le_of_ble_eq_true rfl, Nat.le_of_ble_eq_true rfl⟩ (hR.recv M (tG_0 hA) rfl) rfl hl.1 rfl (lv_room (Nat.le_of_ble_eq_true rfl)) dX2_tenths_74 ⟨(by first | exact Nat.le_refl _ | exact Nat.zero_le _ | (dsimp only; omega)), (by first | exact Nat.le_refl _ | exact Nat.zero_le _ | (dsimp only; omega))⟩) hS (fun r74 G74 H locs hp74 hR hS => ?_)
          obtain ⟨rfl, rfl⟩ := hp74
          refine lv_bipush (v := (48 : Int32)) hx hb dX2_tenths_77 (by decide) ?_
          refine lv_bipush (v := (57 : Int32)) hx hb dX2_tenths_79 (by decide) ?_
          refine g_ki (g_S (As := [_, _, _]) M hR hS (c_X2_in l K _ _ _) (lw_S q1098 q1099 q73 q1100) 3 md_X2_in ⟨rfl, rfl⟩ ⟨Nat.le_of_ble_eq_true rfl, Nat.le_of_ble_eq_true rfl⟩ rfl hl.1 rfl (lv_room (Nat.le_of_ble_eq_true rfl)) dX2_tenths_81 ⟨(by first | exact Nat.le_refl _ | exact Nat.zero_le _ | (dsimp only; omega)), (by first | exact Nat.le_refl _ | exact Nat.zero_le _ | (dsimp only; omega))⟩) hS (fun r81 G81 H locs hp81 hR hS => ?_)
          obtain ⟨rfl, e0⟩ := hp81
          rw [e0] at hR
          refine g_kv (g_V (As := [_]) M hR hS (c_X2_must l K hA ht hst (pDi cs (pPl (pMu (decide (pC cs (pPl (pPo (pGo (pDs cs 3) (pN0 cs ps)))) = 46)) (pPo (pGo (pDs cs 3) (pN0 cs ps)))))) (fun a h1 h2 => by rw [h1] at h2; exact pDi_lt h2)) (lw_V q1230 q1232 qs39 q73 q1233) 1 md_X2_must rfl ⟨rfl, rfl⟩ ⟨Nat.le_of_ble_eq_true rfl, Nat.le_of_ble_eq_true rfl⟩ (hR.recv M (tG_0 hA) rfl) rfl hl.1 rfl (lv_room (Nat.le_of_ble_eq_true rfl)) dX2_tenths_84 ⟨(by first | exact Nat.le_refl _ | exact Nat.zero_le _ | (dsimp only; omega)), (by first | exact Nat.le_refl _ | exact Nat.zero_le _ | (dsimp only; omega))⟩) hS (fun G84 H locs hp84 hR hS => ?_)
          obtain ⟨V84, rfl, hs84, hst⟩ := hp84
          have ht := ht.to hs84 (by decide) (by decide)
          obtain ⟨e1, e2⟩ := pNu_go (less := pNg cs (pPl ps)) (ps := pN0 cs ps) rfl rfl
          refine lv_iload_n hx hb dX2_tenths_87 rfl (lv_at hl 2 rfl) ?_
          refine lv_if_eq (tgt := 101) hx hb dX2_tenths_88 (by decide) (fun c88 => ?_) (fun c88 => ?_)
          · refine lv_bipush (v := (10 : Int32)) hx hb dX2_tenths_101 (by decide) ?_
            refine lv_iload_n hx hb dX2_tenths_103 rfl (lv_at hl 1 rfl) ?_
            refine lv_imul hx hb dX2_tenths_104 ?_
            refine lv_iload_n hx hb dX2_tenths_105 rfl (lv_at hl 0 rfl) ?_
            refine lv_iadd hx hb dX2_tenths_106 ?_
            exact g_iret M hr hlk hR hS (by omega) (by omega) dX2_tenths_107 (⟨_, rfl, (tQ.trans (tQ.trans (tQ.trans (tQ.trans tQ.rf hq37 (by decide)) hs42 (by decide)) hs61 (by decide)) hs84 (by decide)), by rw [pNm_go, e1]; exact hst, fun v9 h9 => by rw [pNm_go] at h9; obtain ⟨u9, hu9, rfl⟩ := e2 v9 h9; rw [hv42 u9 hu9, if_neg (by rw [bI_0.mp c88]; decide)]⟩)
          · refine lv_bipush (v := (10 : Int32)) hx hb dX2_tenths_91 (by decide) ?_
            refine lv_iload_n hx hb dX2_tenths_93 rfl (lv_at hl 1 rfl) ?_
            refine lv_imul hx hb dX2_tenths_94 ?_
            refine lv_iload_n hx hb dX2_tenths_95 rfl (lv_at hl 0 rfl) ?_
            refine lv_iadd hx hb dX2_tenths_96 ?_
            refine lv_ineg hx hb dX2_tenths_97 ?_
            refine lv_goto (tgt := 107) hx hb dX2_tenths_98 (by decide) ?_
            exact g_iret M hr hlk hR hS (by omega) (by omega) dX2_tenths_107 (⟨_, rfl, (tQ.trans (tQ.trans (tQ.trans (tQ.trans tQ.rf hq37 (by decide)) hs42 (by decide)) hs61 (by decide)) hs84 (by decide)), by rw [pNm_go, e1]; exact hst, fun v9 h9 => by rw [pNm_go] at h9; obtain ⟨u9, hu9, rfl⟩ := e2 v9 h9; rw [hv42 u9 hu9, if_pos (bI_n0.mp c88)]⟩)
        · refine lv_iconst (v := (1 : Int32)) hx hb dX2_tenths_56 (by decide) ?_
          refine lv_goto (tgt := 61) hx hb dX2_tenths_57 (by decide) ?_
          refine g_topi (bI (decide (pC cs (pPl (pPo (pGo (pDs cs 3) (pN0 cs ps)))) = 46))) (by rw [decide_eq_true c53]; rfl) ?_
          refine g_kv (g_V (As := [_]) M hR hS (c_X2_must l K hA ht hst (decide (pC cs (pPl (pPo (pGo (pDs cs 3) (pN0 cs ps)))) = 46)) (fun a h1 h2 => pC_lt (by have h2 := of_decide_eq_true h2; rw [h1] at h2; have h2 : pC cs a = 46 := h2; rw [h2]; decide))) (lw_V q1230 q1232 qs39 q73 q1233) 1 md_X2_must rfl ⟨rfl, rfl⟩ ⟨Nat.le_of_ble_eq_true rfl, Nat.le_of_ble_eq_true rfl⟩ (hR.recv M (tG_0 hA) rfl) rfl hl.1 rfl (lv_room (Nat.le_of_ble_eq_true rfl)) dX2_tenths_61 ⟨(by first | exact Nat.le_refl _ | exact Nat.zero_le _ | (dsimp only; omega)), (by first | exact Nat.le_refl _ | exact Nat.zero_le _ | (dsimp only; omega))⟩) hS (fun G61 H locs hp61 hR hS => ?_)
          obtain ⟨V61, rfl, hs61, hst⟩ := hp61
          have ht := ht.to hs61 (by decide) (by decide)
          refine lv_aload_n hx hb dX2_tenths_64 rfl (lv_at hl 2 rfl) ?_
          refine g_ki (g_V (As := []) M hR hS (c_X2_look l K hA ht hst) (lw_V q1226 q1228 qs38 q73 q1229) 0 md_X2_look rfl ⟨rfl, rfl⟩ ⟨Nat.le_of_ble_eq_true rfl, Nat.le_of_ble_eq_true rfl⟩ (hR.recv M (tG_0 hA) rfl) rfl hl.1 rfl (lv_room (Nat.le_of_ble_eq_true rfl)) dX2_tenths_65 ⟨(by first | exact Nat.le_refl _ | exact Nat.zero_le _ | (dsimp only; omega)), (by first | exact Nat.le_refl _ | exact Nat.zero_le _ | (dsimp only; omega))⟩) hS (fun r65 G65 H locs hp65 hR hS => ?_)
          obtain ⟨rfl, rfl⟩ := hp65
          refine lv_bipush (v := (48 : Int32)) hx hb dX2_tenths_68 (by decide) ?_
          refine lv_isub hx hb dX2_tenths_70 ?_
          refine lv_istore_n (lv' := [(3, _), (2, _), (1, _), (0, _)]) hx hb dX2_tenths_71 rfl hl (by decide) rfl (fun ls hl => ?_)
          refine lv_aload_n hx hb dX2_tenths_72 rfl (lv_at hl 3 rfl) ?_
          refine lv_aload_n hx hb dX2_tenths_73 rfl (lv_at hl 3 rfl) ?_
          refine g_ki (g_V (As := []) M hR hS (c_X2_look l K hA ht hst) (lw_V q1226 q1228 qs38 q73 q1229) 0 md_X2_look rfl ⟨rfl, rfl⟩ ⟨Nat.le_of_ble_eq_true rfl, Nat.le_of_ble_eq_true rfl⟩ (hR.recv M (tG_0 hA) rfl) rfl hl.1 rfl (lv_room (Nat.le_of_ble_eq_true rfl)) dX2_tenths_74 ⟨(by first | exact Nat.le_refl _ | exact Nat.zero_le _ | (dsimp only; omega)), (by first | exact Nat.le_refl _ | exact Nat.zero_le _ | (dsimp only; omega))⟩) hS (fun r74 G74 H locs hp74 hR hS => ?_)
          obtain ⟨rfl, rfl⟩ := hp74
          refine lv_bipush (v := (48 : Int32)) hx hb dX2_tenths_77 (by decide) ?_
          refine lv_bipush (v := (57 : Int32)) hx hb dX2_tenths_79 (by decide) ?_
          refine g_ki (g_S (As := [_, _, _]) M hR hS (c_X2_in l K _ _ _) (lw_S q1098 q1099 q73 q1100) 3 md_X2_in ⟨rfl, rfl⟩ ⟨Nat.le_of_ble_eq_true rfl, Nat.le_of_ble_eq_true rfl⟩ rfl hl.1 rfl (lv_room (Nat.le_of_ble_eq_true rfl)) dX2_tenths_81 ⟨(by first | exact Nat.le_refl _ | exact Nat.zero_le _ | (dsimp only; omega)), (by first | exact Nat.le_refl _ | exact Nat.zero_le _ | (dsimp only; omega))⟩) hS (fun r81 G81 H locs hp81 hR hS => ?_)
          obtain ⟨rfl, e0⟩ := hp81
          rw [e0] at hR
          refine g_kv (g_V (As := [_]) M hR hS (c_X2_must l K hA ht hst (pDi cs (pPl (pMu (decide (pC cs (pPl (pPo (pGo (pDs cs 3) (pN0 cs ps)))) = 46)) (pPo (pGo (pDs cs 3) (pN0 cs ps)))))) (fun a h1 h2 => by rw [h1] at h2; exact pDi_lt h2)) (lw_V q1230 q1232 qs39 q73 q1233) 1 md_X2_must rfl ⟨rfl, rfl⟩ ⟨Nat.le_of_ble_eq_true rfl, Nat.le_of_ble_eq_true rfl⟩ (hR.recv M (tG_0 hA) rfl) rfl hl.1 rfl (lv_room (Nat.le_of_ble_eq_true rfl)) dX2_tenths_84 ⟨(by first | exact Nat.le_refl _ | exact Nat.zero_le _ | (dsimp only; omega)), (by first | exact Nat.le_refl _ | exact Nat.zero_le _ | (dsimp only; omega))⟩) hS (fun G84 H locs hp84 hR hS => ?_)
          obtain ⟨V84, rfl, hs84, hst⟩ := hp84
          have ht := ht.to hs84 (by decide) (by decide)
          obtain ⟨e1, e2⟩ := pNu_go (less := pNg cs (pPl ps)) (ps := pN0 cs ps) rfl rfl
          refine lv_iload_n hx hb dX2_tenths_87 rfl (lv_at hl 2 rfl) ?_
          refine lv_if_eq (tgt := 101) hx hb dX2_tenths_88 (by decide) (fun c88 => ?_) (fun c88 => ?_)
          · refine lv_bipush (v := (10 : Int32)) hx hb dX2_tenths_101 (by decide) ?_
            refine lv_iload_n hx hb dX2_tenths_103 rfl (lv_at hl 1 rfl) ?_
            refine lv_imul hx hb dX2_tenths_104 ?_
            refine lv_iload_n hx hb dX2_tenths_105 rfl (lv_at hl 0 rfl) ?_
            refine lv_iadd hx hb dX2_tenths_106 ?_
            exact g_iret M hr hlk hR hS (by omega) (by omega) dX2_tenths_107 (⟨_, rfl, (tQ.trans (tQ.trans (tQ.trans (tQ.trans tQ.rf hq37 (by decide)) hs42 (by decide)) hs61 (by decide)) hs84 (by decide)), by rw [pNm_go, e1]; exact hst, fun v9 h9 => by rw [pNm_go] at h9; obtain ⟨u9, hu9, rfl⟩ := e2 v9 h9; rw [hv42 u9 hu9, if_neg (by rw [bI_0.mp c88]; decide)]⟩)
          · refine lv_bipush (v := (10 : Int32)) hx hb dX2_tenths_91 (by decide) ?_
            refine lv_iload_n hx hb dX2_tenths_93 rfl (lv_at hl 1 rfl) ?_
            refine lv_imul hx hb dX2_tenths_94 ?_
            refine lv_iload_n hx hb dX2_tenths_95 rfl (lv_at hl 0 rfl) ?_
            refine lv_iadd hx hb dX2_tenths_96 ?_
            refine lv_ineg hx hb dX2_tenths_97 ?_
            refine lv_goto (tgt := 107) hx hb dX2_tenths_98 (by decide) ?_
            exact g_iret M hr hlk hR hS (by omega) (by omega) dX2_tenths_107 (⟨_, rfl, (tQ.trans (tQ.trans (tQ.trans (tQ.trans tQ.rf hq37 (by decide)) hs42 (by decide)) hs61 (by decide)) hs84 (by decide)), by rw [pNm_go, e1]; exact hst, fun v9 h9 => by rw [pNm_go] at h9; obtain ⟨u9, hu9, rfl⟩ := e2 v9 h9; rw [hv42 u9 hu9, if_pos (bI_n0.mp c88)]⟩)
      · refine lv_iconst (v := (1 : Int32)) hx hb dX2_tenths_31 (by decide) ?_
        refine lv_goto (tgt := 36) hx hb dX2_tenths_32 (by decide) ?_
        refine lv_iadd hx hb dX2_tenths_36 ?_
        refine g_topi (nI (pPl (pN0 cs ps))) (by obtain ⟨a9, rfl⟩ := pWr_f (bI_0.mp c28); exact (nI_1 a9).trans (congrArg nI (if_pos (bI_n0.mp c21)).symm)) ?_
        refine t_putQ M hA hR hS 11 (by decide) q1050 ⟨rfl, rfl⟩ rfl rfl dX2_tenths_37 (fun V37 H locs hq37 hw37 hz37 hR hS => ?_)
        have ht := ht.to hq37 (by decide) (by decide)
        have hst : pSt V37 cs (pN0 cs ps) := ⟨hw37, (hq37.fld (by decide)).trans (hst.2.1.trans (by rw [pN0_wr])), pN0_pl hst.2.2⟩
        refine lv_aload_n hx hb dX2_tenths_40 rfl (lv_at hl 1 rfl) ?_
        refine lv_iconst (v := (3 : Int32)) hx hb dX2_tenths_41 (by decide) ?_
        refine g_ki (g_V (As := [_]) M hR hS (c_X2_digits l K hA ht hst (m9 := 3) (by decide) (by decide)) (lw_V q1234 q1236 qs40 q73 q1237) 1 md_X2_digits rfl ⟨rfl, rfl⟩ ⟨Nat.le_of_ble_eq_true rfl, Nat.le_of_ble_eq_true rfl⟩ (hR.recv M (tG_0 hA) rfl) rfl hl.1 rfl (lv_room (Nat.le_of_ble_eq_true rfl)) dX2_tenths_42 ⟨(by first | exact Nat.le_refl _ | exact Nat.zero_le _ | (dsimp only; omega)), (by first | exact Nat.le_refl _ | exact Nat.zero_le _ | (dsimp only; omega))⟩) hS (fun r42 G42 H locs hp42 hR hS => ?_)
        obtain ⟨V42, rfl, hs42, hst, hv42⟩ := hp42
        have ht := ht.to hs42 (by decide) (by decide)
        refine lv_istore_n (lv' := [(2, _), (1, _), (0, _)]) hx hb dX2_tenths_45 rfl hl (by decide) rfl (fun ls hl => ?_)
        refine lv_aload_n hx hb dX2_tenths_46 rfl (lv_at hl 2 rfl) ?_
        refine lv_aload_n hx hb dX2_tenths_47 rfl (lv_at hl 2 rfl) ?_
        refine g_ki (g_V (As := []) M hR hS (c_X2_look l K hA ht hst) (lw_V q1226 q1228 qs38 q73 q1229) 0 md_X2_look rfl ⟨rfl, rfl⟩ ⟨Nat.le_of_ble_eq_true rfl, Nat.le_of_ble_eq_true rfl⟩ (hR.recv M (tG_0 hA) rfl) rfl hl.1 rfl (lv_room (Nat.le_of_ble_eq_true rfl)) dX2_tenths_48 ⟨(by first | exact Nat.le_refl _ | exact Nat.zero_le _ | (dsimp only; omega)), (by first | exact Nat.le_refl _ | exact Nat.zero_le _ | (dsimp only; omega))⟩) hS (fun r48 G48 H locs hp48 hR hS => ?_)
        obtain ⟨rfl, rfl⟩ := hp48
        refine lv_bipush (v := (46 : Int32)) hx hb dX2_tenths_51 (by decide) ?_
        refine lv_icmp_ne (tgt := 60) hx hb dX2_tenths_53 (by decide) (fun c53 => ?_) (fun c53 => ?_)
        · refine lv_iconst (v := (0 : Int32)) hx hb dX2_tenths_60 (by decide) ?_
          refine g_topi (bI (decide (pC cs (pPl (pPo (pGo (pDs cs 3) (pN0 cs ps)))) = 46))) (by rw [decide_eq_false c53]; rfl) ?_
          refine g_kv (g_V (As := [_]) M hR hS (c_X2_must l K hA ht hst (decide (pC cs (pPl (pPo (pGo (pDs cs 3) (pN0 cs ps)))) = 46)) (fun a h1 h2 => pC_lt (by have h2 := of_decide_eq_true h2; rw [h1] at h2; have h2 : pC cs a = 46 := h2; rw [h2]; decide))) (lw_V q1230 q1232 qs39 q73 q1233) 1 md_X2_must rfl ⟨rfl, rfl⟩ ⟨Nat.le_of_ble_eq_true rfl, Nat.le_of_ble_eq_true rfl⟩ (hR.recv M (tG_0 hA) rfl) rfl hl.1 rfl (lv_room (Nat.le_of_ble_eq_true rfl)) dX2_tenths_61 ⟨(by first | exact Nat.le_refl _ | exact Nat.zero_le _ | (dsimp only; omega)), (by first | exact Nat.le_refl _ | exact Nat.zero_le _ | (dsimp only; omega))⟩) hS (fun G61 H locs hp61 hR hS => ?_)
          obtain ⟨V61, rfl, hs61, hst⟩ := hp61
          have ht := ht.to hs61 (by decide) (by decide)
          refine lv_aload_n hx hb dX2_tenths_64 rfl (lv_at hl 2 rfl) ?_
          refine g_ki (g_V (As := []) M hR hS (c_X2_look l K hA ht hst) (lw_V q1226 q1228 qs38 q73 q1229) 0 md_X2_look rfl ⟨rfl, rfl⟩ ⟨Nat.le_of_ble_eq_true rfl, Nat.le_of_ble_eq_true rfl⟩ (hR.recv M (tG_0 hA) rfl) rfl hl.1 rfl (lv_room (Nat.le_of_ble_eq_true rfl)) dX2_tenths_65 ⟨(by first | exact Nat.le_refl _ | exact Nat.zero_le _ | (dsimp only; omega)), (by first | exact Nat.le_refl _ | exact Nat.zero_le _ | (dsimp only; omega))⟩) hS (fun r65 G65 H locs hp65 hR hS => ?_)
          obtain ⟨rfl, rfl⟩ := hp65
          refine lv_bipush (v := (48 : Int32)) hx hb dX2_tenths_68 (by decide) ?_
          refine lv_isub hx hb dX2_tenths_70 ?_
          refine lv_istore_n (lv' := [(3, _), (2, _), (1, _), (0, _)]) hx hb dX2_tenths_71 rfl hl (by decide) rfl (fun ls hl => ?_)
          refine lv_aload_n hx hb dX2_tenths_72 rfl (lv_at hl 3 rfl) ?_
          refine lv_aload_n hx hb dX2_tenths_73 rfl (lv_at hl 3 rfl) ?_
          refine g_ki (g_V (As := []) M hR hS (c_X2_look l K hA ht hst) (lw_V q1226 q1228 qs38 q73 q1229) 0 md_X2_look rfl ⟨rfl, rfl⟩ ⟨Nat.le_of_ble_eq_true rfl, Nat.le_of_ble_eq_true rfl⟩ (hR.recv M (tG_0 hA) rfl) rfl hl.1 rfl (lv_room (Nat.le_of_ble_eq_true rfl)) dX2_tenths_74 ⟨(by first | exact Nat.le_refl _ | exact Nat.zero_le _ | (dsimp only; omega)), (by first | exact Nat.le_refl _ | exact Nat.zero_le _ | (dsimp only; omega))⟩) hS (fun r74 G74 H locs hp74 hR hS => ?_)
          obtain ⟨rfl, rfl⟩ := hp74
          refine lv_bipush (v := (48 : Int32)) hx hb dX2_tenths_77 (by decide) ?_
          refine lv_bipush (v := (57 : Int32)) hx hb dX2_tenths_79 (by decide) ?_
          refine g_ki (g_S (As := [_, _, _]) M hR hS (c_X2_in l K _ _ _) (lw_S q1098 q1099 q73 q1100) 3 md_X2_in ⟨rfl, rfl⟩ ⟨Nat.le_of_ble_eq_true rfl, Nat.le_of_ble_eq_true rfl⟩ rfl hl.1 rfl (lv_room (Nat.le_of_ble_eq_true rfl)) dX2_tenths_81 ⟨(by first | exact Nat.le_refl _ | exact Nat.zero_le _ | (dsimp only; omega)), (by first | exact Nat.le_refl _ | exact Nat.zero_le _ | (dsimp only; omega))⟩) hS (fun r81 G81 H locs hp81 hR hS => ?_)
          obtain ⟨rfl, e0⟩ := hp81
          rw [e0] at hR
          refine g_kv (g_V (As := [_]) M hR hS (c_X2_must l K hA ht hst (pDi cs (pPl (pMu (decide (pC cs (pPl (pPo (pGo (pDs cs 3) (pN0 cs ps)))) = 46)) (pPo (pGo (pDs cs 3) (pN0 cs ps)))))) (fun a h1 h2 => by rw [h1] at h2; exact pDi_lt h2)) (lw_V q1230 q1232 qs39 q73 q1233) 1 md_X2_must rfl ⟨rfl, rfl⟩ ⟨Nat.le_of_ble_eq_true rfl, Nat.le_of_ble_eq_true rfl⟩ (hR.recv M (tG_0 hA) rfl) rfl hl.1 rfl (lv_room (Nat.le_of_ble_eq_true rfl)) dX2_tenths_84 ⟨(by first | exact Nat.le_refl _ | exact Nat.zero_le _ | (dsimp only; omega)), (by first | exact Nat.le_refl _ | exact Nat.zero_le _ | (dsimp only; omega))⟩) hS (fun G84 H locs hp84 hR hS => ?_)
          obtain ⟨V84, rfl, hs84, hst⟩ := hp84
          have ht := ht.to hs84 (by decide) (by decide)
          obtain ⟨e1, e2⟩ := pNu_go (less := pNg cs (pPl ps)) (ps := pN0 cs ps) rfl rfl
          refine lv_iload_n hx hb dX2_tenths_87 rfl (lv_at hl 2 rfl) ?_
          refine lv_if_eq (tgt := 101) hx hb dX2_tenths_88 (by decide) (fun c88 => ?_) (fun c88 => ?_)
          · refine lv_bipush (v := (10 : Int32)) hx hb dX2_tenths_101 (by decide) ?_
            refine lv_iload_n hx hb dX2_tenths_103 rfl (lv_at hl 1 rfl) ?_
            refine lv_imul hx hb dX2_tenths_104 ?_
            refine lv_iload_n hx hb dX2_tenths_105 rfl (lv_at hl 0 rfl) ?_
            refine lv_iadd hx hb dX2_tenths_106 ?_
            exact g_iret M hr hlk hR hS (by omega) (by omega) dX2_tenths_107 (⟨_, rfl, (tQ.trans (tQ.trans (tQ.trans (tQ.trans tQ.rf hq37 (by decide)) hs42 (by decide)) hs61 (by decide)) hs84 (by decide)), by rw [pNm_go, e1]; exact hst, fun v9 h9 => by rw [pNm_go] at h9; obtain ⟨u9, hu9, rfl⟩ := e2 v9 h9; rw [hv42 u9 hu9, if_neg (by rw [bI_0.mp c88]; decide)]⟩)
          · refine lv_bipush (v := (10 : Int32)) hx hb dX2_tenths_91 (by decide) ?_
            refine lv_iload_n hx hb dX2_tenths_93 rfl (lv_at hl 1 rfl) ?_
            refine lv_imul hx hb dX2_tenths_94 ?_
            refine lv_iload_n hx hb dX2_tenths_95 rfl (lv_at hl 0 rfl) ?_
            refine lv_iadd hx hb dX2_tenths_96 ?_
            refine lv_ineg hx hb dX2_tenths_97 ?_
            refine lv_goto (tgt := 107) hx hb dX2_tenths_98 (by decide) ?_
            exact g_iret M hr hlk hR hS (by omega) (by omega) dX2_tenths_107 (⟨_, rfl, (tQ.trans (tQ.trans (tQ.trans (tQ.trans tQ.rf hq37 (by decide)) hs42 (by decide)) hs61 (by decide)) hs84 (by decide)), by rw [pNm_go, e1]; exact hst, fun v9 h9 => by rw [pNm_go] at h9; obtain ⟨u9, hu9, rfl⟩ := e2 v9 h9; rw [hv42 u9 hu9, if_pos (bI_n0.mp c88)]⟩)
        · refine lv_iconst (v := (1 : Int32)) hx hb dX2_tenths_56 (by decide) ?_
          refine lv_goto (tgt := 61) hx hb dX2_tenths_57 (by decide) ?_
          refine g_topi (bI (decide (pC cs (pPl (pPo (pGo (pDs cs 3) (pN0 cs ps)))) = 46))) (by rw [decide_eq_true c53]; rfl) ?_
          refine g_kv (g_V (As := [_]) M hR hS (c_X2_must l K hA ht hst (decide (pC cs (pPl (pPo (pGo (pDs cs 3) (pN0 cs ps)))) = 46)) (fun a h1 h2 => pC_lt (by have h2 := of_decide_eq_true h2; rw [h1] at h2; have h2 : pC cs a = 46 := h2; rw [h2]; decide))) (lw_V q1230 q1232 qs39 q73 q1233) 1 md_X2_must rfl ⟨rfl, rfl⟩ ⟨Nat.le_of_ble_eq_true rfl, Nat.le_of_ble_eq_true rfl⟩ (hR.recv M (tG_0 hA) rfl) rfl hl.1 rfl (lv_room (Nat.le_of_ble_eq_true rfl)) dX2_tenths_61 ⟨(by first | exact Nat.le_refl _ | exact Nat.zero_le _ | (dsimp only; omega)), (by first | exact Nat.le_refl _ | exact Nat.zero_le _ | (dsimp only; omega))⟩) hS (fun G61 H locs hp61 hR hS => ?_)
          obtain ⟨V61, rfl, hs61, hst⟩ := hp61
          have ht := ht.to hs61 (by decide) (by decide)
          refine lv_aload_n hx hb dX2_tenths_64 rfl (lv_at hl 2 rfl) ?_
          refine g_ki (g_V (As := []) M hR hS (c_X2_look l K hA ht hst) (lw_V q1226 q1228 qs38 q73 q1229) 0 md_X2_look rfl ⟨rfl, rfl⟩ ⟨Nat.le_of_ble_eq_true rfl, Nat.le_of_ble_eq_true rfl⟩ (hR.recv M (tG_0 hA) rfl) rfl hl.1 rfl (lv_room (Nat.le_of_ble_eq_true rfl)) dX2_tenths_65 ⟨(by first | exact Nat.le_refl _ | exact Nat.zero_le _ | (dsimp only; omega)), (by first | exact Nat.le_refl _ | exact Nat.zero_le _ | (dsimp only; omega))⟩) hS (fun r65 G65 H locs hp65 hR hS => ?_)
          obtain ⟨rfl, rfl⟩ := hp65
          refine lv_bipush (v := (48 : Int32)) hx hb dX2_tenths_68 (by decide) ?_
          refine lv_isub hx hb dX2_tenths_70 ?_
          refine lv_istore_n (lv' := [(3, _), (2, _), (1, _), (0, _)]) hx hb dX2_tenths_71 rfl hl (by decide) rfl (fun ls hl => ?_)
          refine lv_aload_n hx hb dX2_tenths_72 rfl (lv_at hl 3 rfl) ?_
          refine lv_aload_n hx hb dX2_tenths_73 rfl (lv_at hl 3 rfl) ?_
          refine g_ki (g_V (As := []) M hR hS (c_X2_look l K hA ht hst) (lw_V q1226 q1228 qs38 q73 q1229) 0 md_X2_look rfl ⟨rfl, rfl⟩ ⟨Nat.le_of_ble_eq_true rfl, Nat.le_of_ble_eq_true rfl⟩ (hR.recv M (tG_0 hA) rfl) rfl hl.1 rfl (lv_room (Nat.le_of_ble_eq_true rfl)) dX2_tenths_74 ⟨(by first | exact Nat.le_refl _ | exact Nat.zero_le _ | (dsimp only; omega)), (by first | exact Nat.le_refl _ | exact Nat.zero_le _ | (dsimp only; omega))⟩) hS (fun r74 G74 H locs hp74 hR hS => ?_)
          obtain ⟨rfl, rfl⟩ := hp74
          refine lv_bipush (v := (48 : Int32)) hx hb dX2_tenths_77 (by decide) ?_
          refine lv_bipush (v := (57 : Int32)) hx hb dX2_tenths_79 (by decide) ?_
          refine g_ki (g_S (As := [_, _, _]) M hR hS (c_X2_in l K _ _ _) (lw_S q1098 q1099 q73 q1100) 3 md_X2_in ⟨rfl, rfl⟩ ⟨Nat.le_of_ble_eq_true rfl, Nat.le_of_ble_eq_true rfl⟩ rfl hl.1 rfl (lv_room (Nat.le_of_ble_eq_true rfl)) dX2_tenths_81 ⟨(by first | exact Nat.le_refl _ | exact Nat.zero_le _ | (dsimp only; omega)), (by first | exact Nat.le_refl _ | exact Nat.zero_le _ | (dsimp only; omega))⟩) hS (fun r81 G81 H locs hp81 hR hS => ?_)
          obtain ⟨rfl, e0⟩ := hp81
          rw [e0] at hR
          refine g_kv (g_V (As := [_]) M hR hS (c_X2_must l K hA ht hst (pDi cs (pPl (pMu (decide (pC cs (pPl (pPo (pGo (pDs cs 3) (pN0 cs ps)))) = 46)) (pPo (pGo (pDs cs 3) (pN0 cs ps)))))) (fun a h1 h2 => by rw [h1] at h2; exact pDi_lt h2)) (lw_V q1230 q1232 qs39 q73 q1233) 1 md_X2_must rfl ⟨rfl, rfl⟩ ⟨Nat.le_of_ble_eq_true rfl, Nat.le_of_ble_eq_true rfl⟩ (hR.recv M (tG_0 hA) rfl) rfl hl.1 rfl (lv_room (Nat.le_of_ble_eq_true rfl)) dX2_tenths_84 ⟨(by first | exact Nat.le_refl _ | exact Nat.zero_le _ | (dsimp only; omega)), (by first | exact Nat.le_refl _ | exact Nat.zero_le _ | (dsimp only; omega))⟩) hS (fun G84 H locs hp84 hR hS => ?_)
          obtain ⟨V84, rfl, hs84, hst⟩ := hp84
          have ht := ht.to hs84 (by decide) (by decide)
          obtain ⟨e1, e2⟩ := pNu_go (less := pNg cs (pPl ps)) (ps := pN0 cs ps) rfl rfl
          refine lv_iload_n hx hb dX2_tenths_87 rfl (lv_at hl 2 rfl) ?_
          refine lv_if_eq (tgt := 101) hx hb dX2_tenths_88 (by decide) (fun c88 => ?_) (fun c88 => ?_)
          · refine lv_bipush (v := (10 : Int32)) hx hb dX2_tenths_101 (by decide) ?_
            refine lv_iload_n hx hb dX2_tenths_103 rfl (lv_at hl 1 rfl) ?_
            refine lv_imul hx hb dX2_tenths_104 ?_
            refine lv_iload_n hx hb dX2_tenths_105 rfl (lv_at hl 0 rfl) ?_
            refine lv_iadd hx hb dX2_tenths_106 ?_
            exact g_iret M hr hlk hR hS (by omega) (by omega) dX2_tenths_107 (⟨_, rfl, (tQ.trans (tQ.trans (tQ.trans (tQ.trans tQ.rf hq37 (by decide)) hs42 (by decide)) hs61 (by decide)) hs84 (by decide)), by rw [pNm_go, e1]; exact hst, fun v9 h9 => by rw [pNm_go] at h9; obtain ⟨u9, hu9, rfl⟩ := e2 v9 h9; rw [hv42 u9 hu9, if_neg (by rw [bI_0.mp c88]; decide)]⟩)
          · refine lv_bipush (v := (10 : Int32)) hx hb dX2_tenths_91 (by decide) ?_
            refine lv_iload_n hx hb dX2_tenths_93 rfl (lv_at hl 1 rfl) ?_
            refine lv_imul hx hb dX2_tenths_94 ?_
            refine lv_iload_n hx hb dX2_tenths_95 rfl (lv_at hl 0 rfl) ?_
            refine lv_iadd hx hb dX2_tenths_96 ?_
            refine lv_ineg hx hb dX2_tenths_97 ?_
            refine lv_goto (tgt := 107) hx hb dX2_tenths_98 (by decide) ?_
            exact g_iret M hr hlk hR hS (by omega) (by omega) dX2_tenths_107 (⟨_, rfl, (tQ.trans (tQ.trans (tQ.trans (tQ.trans tQ.rf hq37 (by decide)) hs42 (by decide)) hs61 (by decide)) hs84 (by decide)), by rw [pNm_go, e1]; exact hst, fun v9 h9 => by rw [pNm_go] at h9; obtain ⟨u9, hu9, rfl⟩ := e2 v9 h9; rw [hv42 u9 hu9, if_pos (bI_n0.mp c88)]⟩)

theorem md_X2_tell : gMd yX2_tell 1 := by
  unfold gMd
  decide +kernel
set_option maxHeartbeats 4000000 in
set_option maxRecDepth 100000 in
theorem c_X2_tell (l : Launch) (K : gK) {G0 : gG} {A : Nat → Nat} {V : tV} {cs : List Nat} {ps : Nat ⊕ Nat} (hA : tInj A) (ht : pTx V cs) (hst : pSt V cs ps) (k9 : Nat) (hk9 : 4 * k9 + 3 < 64) : Met l yX2_tell (ws_ yX2_tell cX2_tell 2 (Option.none : Option Jvm.ClassFile.FieldType)) (gRm 3 0 0 68) (gPre K [.ref (A 0), .int (nI k9)] (tG K G0 A V)) (gQv K (fun G1 => ∃ V1, G1 = tG K G0 A V1 ∧ tQ [11, 12, 13] V V1 ∧ pSt V1 cs (pPo (pGo (pOr cs) ps)) ∧ (∀ t, pVa (pGo (pOr cs) ps) = some t → (V1.2.1 13 (4 * k9) = t.1 ∧ V1.2.1 13 (4 * k9 + 1) = t.2.1 ∧ V1.2.1 13 (4 * k9 + 2) = t.2.2.1 ∧ V1.2.1 13 (4 * k9 + 3) = t.2.2.2)) ∧ ∀ i, i < 4 * k9 → V1.2.1 13 i = V.2.1 13 i)) 0 0 (gA K) := by
  refine g_met (by decide) (Nat.le_of_ble_eq_true rfl) ?_
  intro p e s m below meth c M hr hlk hnm hR ls hl
  have M : gM K p s m _ c cX2_tell 2 RX2 := M
  have hx := M.hx
  have hb := M.hb
  have hS : va_S (gA K) s.heap s.heap [] := va_S.rf
  have hl : lv_has ls 2 [(0, .ref (A 0)), (1, .int (nI k9))] := hl
  have h13 : V.2.1 13 = V.2.1 13 := rfl
  refine lv_aload_n hx hb dX2_tell_0 rfl (lv_at hl 0 rfl) ?_
  refine t_get M hA hR 13 (by decide) q1052 rfl rfl dX2_tell_1 ?_
  refine lv_iconst (v := (4 : Int32)) hx hb dX2_tell_4 (by decide) ?_
  refine lv_iload_n hx hb dX2_tell_5 rfl (lv_at hl 1 rfl) ?_
  refine lv_imul hx hb dX2_tell_6 ?_
  refine lv_aload_n hx hb dX2_tell_7 rfl (lv_at hl 0 rfl) ?_
  refine g_ki (g_V (As := []) M hR hS (c_X2_wordHere l K hA ht hst) (lw_V q1222 q1224 qs37 q73 q1225) 0 md_X2_wordHere rfl ⟨rfl, rfl⟩ ⟨Nat.le_of_ble_eq_true rfl, Nat.le_of_ble_eq_true rfl⟩ (hR.recv M (tG_0 hA) rfl) rfl hl.1 rfl (lv_room (Nat.le_of_ble_eq_true rfl)) dX2_tell_8 ⟨(by first | exact Nat.le_refl _ | exact Nat.zero_le _ | (dsimp only; omega)), (by first | exact Nat.le_refl _ | exact Nat.zero_le _ | (dsimp only; omega))⟩) hS (fun r8 G8 H locs hp8 hR hS => ?_)
  obtain ⟨V8, rfl, hs8, hst, hv8⟩ := hp8
  have ht := ht.to hs8 (by decide) (by decide)
  have h13 := (hs8.arr (by decide)).trans h13
  refine t_astQ M hA hR hS 13 (by decide) (by first | assumption | rfl) (4 * k9) (ix_40 k9) (by show _ < 64; omega) dX2_tell_11 (fun V11 H locs hq11 hw11 hR hS => ?_)
  have h13 := hw11
  have ht := ht.to hq11 (by decide) (by decide)
  have hst : pSt V11 cs _ := ⟨(hq11.fld (by decide)).trans hst.1, (hq11.fld (by decide)).trans hst.2.1, hst.2.2⟩
  refine lv_aload_n hx hb dX2_tell_12 rfl (lv_at hl 0 rfl) ?_
  refine t_get M hA hR 13 (by decide) q1052 rfl rfl dX2_tell_13 ?_
  refine lv_iconst (v := (4 : Int32)) hx hb dX2_tell_16 (by decide) ?_
  refine lv_iload_n hx hb dX2_tell_17 rfl (lv_at hl 1 rfl) ?_
  refine lv_imul hx hb dX2_tell_18 ?_
  refine lv_iconst (v := (1 : Int32)) hx hb dX2_tell_19 (by decide) ?_
  refine lv_iadd hx hb dX2_tell_20 ?_
  refine lv_bipush (v := ((-5) : Int32)) hx hb dX2_tell_21 (by decide) ?_
  refine t_astQ M hA hR hS 13 (by decide) (by first | assumption | rfl) (4 * k9 + 1) (ix_4 k9 1) (by show _ < 64; omega) dX2_tell_23 (fun V23 H locs hq23 hw23 hR hS => ?_)
  have h13 := hw23
  have ht := ht.to hq23 (by decide) (by decide)
  have hst : pSt V23 cs _ := ⟨(hq23.fld (by decide)).trans hst.1, (hq23.fld (by decide)).trans hst.2.1, hst.2.2⟩
  refine lv_aload_n hx hb dX2_tell_24 rfl (lv_at hl 0 rfl) ?_
  refine t_get M hA hR 13 (by decide) q1052 rfl rfl dX2_tell_25 ?_
  refine lv_iconst (v := (4 : Int32)) hx hb dX2_tell_28 (by decide) ?_
  refine lv_iload_n hx hb dX2_tell_29 rfl (lv_at hl 1 rfl) ?_
  refine lv_imul hx hb dX2_tell_30 ?_
  refine lv_iconst (v := (2 : Int32)) hx hb dX2_tell_31 (by decide) ?_
  refine lv_iadd hx hb dX2_tell_32 ?_
  refine lv_bipush (v := (10 : Int32)) hx hb dX2_tell_33 (by decide) ?_
  refine t_astQ M hA hR hS 13 (by decide) (by first | assumption | rfl) (4 * k9 + 2) (ix_4 k9 2) (by show _ < 64; omega) dX2_tell_35 (fun V35 H locs hq35 hw35 hR hS => ?_)
  have h13 := hw35
  have ht := ht.to hq35 (by decide) (by decide)
  have hst : pSt V35 cs _ := ⟨(hq35.fld (by decide)).trans hst.1, (hq35.fld (by decide)).trans hst.2.1, hst.2.2⟩
  refine lv_aload_n hx hb dX2_tell_36 rfl (lv_at hl 0 rfl) ?_
  refine t_get M hA hR 13 (by decide) q1052 rfl rfl dX2_tell_37 ?_
  refine lv_iconst (v := (4 : Int32)) hx hb dX2_tell_40 (by decide) ?_
  refine lv_iload_n hx hb dX2_tell_41 rfl (lv_at hl 1 rfl) ?_
  refine lv_imul hx hb dX2_tell_42 ?_
  refine lv_iconst (v := (3 : Int32)) hx hb dX2_tell_43 (by decide) ?_
  refine lv_iadd hx hb dX2_tell_44 ?_
  refine lv_iconst (v := (0 : Int32)) hx hb dX2_tell_45 (by decide) ?_
  refine t_astQ M hA hR hS 13 (by decide) (by first | assumption | rfl) (4 * k9 + 3) (ix_4 k9 3) (by show _ < 64; omega) dX2_tell_46 (fun V46 H locs hq46 hw46 hR hS => ?_)
  have h13 := hw46
  have ht := ht.to hq46 (by decide) (by decide)
  have hst : pSt V46 cs _ := ⟨(hq46.fld (by decide)).trans hst.1, (hq46.fld (by decide)).trans hst.2.1, hst.2.2⟩
  refine lv_aload_n hx hb dX2_tell_47 rfl (lv_at hl 0 rfl) ?_
  refine lv_aload_n hx hb dX2_tell_48 rfl (lv_at hl 0 rfl) ?_
  refine g_ki (g_V (As := []) M hR hS (c_X2_look l K hA ht hst) (lw_V q1226 q1228 qs38 q73 q1229) 0 md_X2_look rfl ⟨rfl, rfl⟩ ⟨Nat.le_of_ble_eq_true rfl, Nat.le_of_ble_eq_true rfl⟩ (hR.recv M (tG_0 hA) rfl) rfl hl.1 rfl (lv_room (Nat.le_of_ble_eq_true rfl)) dX2_tell_49 ⟨(by first | exact Nat.le_refl _ | exact Nat.zero_le _ | (dsimp only; omega)), (by first | exact Nat.le_refl _ | exact Nat.zero_le _ | (dsimp only; omega))⟩) hS (fun r49 G49 H locs hp49 hR hS => ?_)
  obtain ⟨rfl, rfl⟩ := hp49
  refine lv_bipush (v := (61 : Int32)) hx hb dX2_tell_52 (by decide) ?_
  refine lv_icmp_ne (tgt := 61) hx hb dX2_tell_54 (by decide) (fun c54 => ?_) (fun c54 => ?_)
  · refine lv_iconst (v := (0 : Int32)) hx hb dX2_tell_61 (by decide) ?_
    refine g_topi (bI (decide (pC cs (pPl (pPo (pGo (pWd cs) ps))) = 61))) (by rw [decide_eq_false c54]; rfl) ?_
    refine g_kv (g_V (As := [_]) M hR hS (c_X2_must l K hA ht hst (decide (pC cs (pPl (pPo (pGo (pWd cs) ps))) = 61)) (fun a h1 h2 => pC_lt (by have h2 := of_decide_eq_true h2; rw [h1] at h2; have h2 : pC cs a = 61 := h2; rw [h2]; decide))) (lw_V q1230 q1232 qs39 q73 q1233) 1 md_X2_must rfl ⟨rfl, rfl⟩ ⟨Nat.le_of_ble_eq_true rfl, Nat.le_of_ble_eq_true rfl⟩ (hR.recv M (tG_0 hA) rfl) rfl hl.1 rfl (lv_room (Nat.le_of_ble_eq_true rfl)) dX2_tell_62 ⟨(by first | exact Nat.le_refl _ | exact Nat.zero_le _ | (dsimp only; omega)), (by first | exact Nat.le_refl _ | exact Nat.zero_le _ | (dsimp only; omega))⟩) hS (fun G62 H locs hp62 hR hS => ?_)
    obtain ⟨V62, rfl, hs62, hst⟩ := hp62
    have ht := ht.to hs62 (by decide) (by decide)
    have h13 := (hs62.arr (by decide)).trans h13
    obtain ⟨e1, e2⟩ := pOr_go (ps0 := ps) rfl rfl
    refine lv_aload_n hx hb dX2_tell_65 rfl (lv_at hl 0 rfl) ?_
    refine t_getE M hA hR 12 (by decide) (hst.2.1) q1051 rfl dX2_tell_66 ?_
    refine lv_if_ne (tgt := 170) hx hb dX2_tell_69 (by decide) (fun c69 => ?_) (fun c69 => ?_)
    · refine lv_aload_n hx hb dX2_tell_170 rfl (lv_at hl 0 rfl) ?_
      refine t_get M hA hR 13 (by decide) q1052 rfl rfl dX2_tell_171 ?_
      refine lv_iconst (v := (4 : Int32)) hx hb dX2_tell_174 (by decide) ?_
      refine lv_iload_n hx hb dX2_tell_175 rfl (lv_at hl 1 rfl) ?_
      refine lv_imul hx hb dX2_tell_176 ?_
      refine lv_iconst (v := (3 : Int32)) hx hb dX2_tell_177 (by decide) ?_
      refine lv_iadd hx hb dX2_tell_178 ?_
      refine lv_aload_n hx hb dX2_tell_179 rfl (lv_at hl 0 rfl) ?_
      refine g_ki (g_V (As := []) M hR hS (c_X2_tenths l K hA ht hst) (lw_V q1238 q1240 qs41 q73 q1241) 0 md_X2_tenths rfl ⟨rfl, rfl⟩ ⟨Nat.le_of_ble_eq_true rfl, Nat.le_of_ble_eq_true rfl⟩ (hR.recv M (tG_0 hA) rfl) rfl hl.1 rfl (lv_room (Nat.le_of_ble_eq_true rfl)) dX2_tell_180 ⟨(by first | exact Nat.le_refl _ | exact Nat.zero_le _ | (dsimp only; omega)), (by first | exact Nat.le_refl _ | exact Nat.zero_le _ | (dsimp only; omega))⟩) hS (fun r180 G180 H locs hp180 hR hS => ?_)
      obtain ⟨V180, rfl, hs180, hst, hv180⟩ := hp180
      have ht := ht.to hs180 (by decide) (by decide)
      have h13 := (hs180.arr (by decide)).trans h13
      refine t_astQ M hA hR hS 13 (by decide) (by first | assumption | rfl) (4 * k9 + 3) (ix_4 k9 3) (by show _ < 64; omega) dX2_tell_183 (fun V183 H locs hq183 hw183 hR hS => ?_)
      have h13 := hw183
      have ht := ht.to hq183 (by decide) (by decide)
      have hst : pSt V183 cs _ := ⟨(hq183.fld (by decide)).trans hst.1, (hq183.fld (by decide)).trans hst.2.1, hst.2.2⟩
      obtain ⟨f1, f2⟩ := e1 (Or.inl (bI_n0.mp c69))
      have hst := hst
      rw [← f1] at hst
      have hfin : ∀ t, pVa (pGo (pOr cs) ps) = some t → (V183.2.1 13 (4 * k9) = t.1 ∧ V183.2.1 13 (4 * k9 + 1) = t.2.1 ∧ V183.2.1 13 (4 * k9 + 2) = t.2.2.1 ∧ V183.2.1 13 (4 * k9 + 3) = t.2.2.2) := fun t h9 => by
        obtain ⟨w9, x9, g1, g2, rfl⟩ := f2 t h9
        rw [h13, hv8 w9 g1, hv180 x9 g2]
        simp [upd]
      have hlo : ∀ i, i < 4 * k9 → V183.2.1 13 i = V.2.1 13 i := fun i hi => by rw [h13]; simp only [upd]; repeat rw [if_neg (by omega)]
      exact g_vret M hr hlk hR hS (by omega) (by omega) dX2_tell_184 (⟨_, rfl, (tQ.trans (tQ.trans (tQ.trans (tQ.trans (tQ.trans (tQ.trans (tQ.trans (tQ.trans tQ.rf hs8 (by decide)) hq11 (by decide)) hq23 (by decide)) hq35 (by decide)) hq46 (by decide)) hs62 (by decide)) hs180 (by decide)) hq183 (by decide)), hst, hfin, hlo⟩)
    · refine lv_aload_n hx hb dX2_tell_72 rfl (lv_at hl 0 rfl) ?_
      refine g_ki (g_V (As := []) M hR hS (c_X2_look l K hA ht hst) (lw_V q1226 q1228 qs38 q73 q1229) 0 md_X2_look rfl ⟨rfl, rfl⟩ ⟨Nat.le_of_ble_eq_true rfl, Nat.le_of_ble_eq_true rfl⟩ (hR.recv M (tG_0 hA) rfl) rfl hl.1 rfl (lv_room (Nat.le_of_ble_eq_true rfl)) dX2_tell_73 ⟨(by first | exact Nat.le_refl _ | exact Nat.zero_le _ | (dsimp only; omega)), (by first | exact Nat.le_refl _ | exact Nat.zero_le _ | (dsimp only; omega))⟩) hS (fun r73 G73 H locs hp73 hR hS => ?_)
      obtain ⟨rfl, rfl⟩ := hp73
      refine lv_bipush (v := (119 : Int32)) hx hb dX2_tell_76 (by decide) ?_
      refine lv_icmp_ne (tgt := 170) hx hb dX2_tell_78 (by decide) (fun c78 => ?_) (fun c78 => ?_)
      · refine lv_aload_n hx hb dX2_tell_170 rfl (lv_at hl 0 rfl) ?_
        refine t_get M hA hR 13 (by decide) q1052 rfl rfl dX2_tell_171 ?_
        refine lv_iconst (v := (4 : Int32)) hx hb dX2_tell_174 (by decide) ?_
        refine lv_iload_n hx hb dX2_tell_175 rfl (lv_at hl 1 rfl) ?_
        refine lv_imul hx hb dX2_tell_176 ?_
        refine lv_iconst (v := (3 : Int32)) hx hb dX2_tell_177 (by decide) ?_
        refine lv_iadd hx hb dX2_tell_178 ?_
        refine lv_aload_n hx hb dX2_tell_179 rfl (lv_at hl 0 rfl) ?_
        refine g_ki (g_V (As := []) M hR hS (c_X2_tenths l K hA ht hst) (lw_V q1238 q1240 qs41 q73 q1241) 0 md_X2_tenths rfl ⟨rfl, rfl⟩ ⟨Nat.le_of_ble_eq_true rfl, Nat.le_of_ble_eq_true rfl⟩ (hR.recv M (tG_0 hA) rfl) rfl hl.1 rfl (lv_room (Nat.le_of_ble_eq_true rfl)) dX2_tell_180 ⟨(by first | exact Nat.le_refl _ | exact Nat.zero_le _ | (dsimp only; omega)), (by first | exact Nat.le_refl _ | exact Nat.zero_le _ | (dsimp only; omega))⟩) hS (fun r180 G180 H locs hp180 hR hS => ?_)
        obtain ⟨V180, rfl, hs180, hst, hv180⟩ := hp180
        have ht := ht.to hs180 (by decide) (by decide)
        have h13 := (hs180.arr (by decide)).trans h13
        refine t_astQ M hA hR hS 13 (by decide) (by first | assumption | rfl) (4 * k9 + 3) (ix_4 k9 3) (by show _ < 64; omega) dX2_tell_183 (fun V183 H locs hq183 hw183 hR hS => ?_)
        have h13 := hw183
        have ht := ht.to hq183 (by decide) (by decide)
        have hst : pSt V183 cs _ := ⟨(hq183.fld (by decide)).trans hst.1, (hq183.fld (by decide)).trans hst.2.1, hst.2.2⟩
        obtain ⟨f1, f2⟩ := e1 (Or.inr c78)
        have hst := hst
        rw [← f1] at hst
        have hfin : ∀ t, pVa (pGo (pOr cs) ps) = some t → (V183.2.1 13 (4 * k9) = t.1 ∧ V183.2.1 13 (4 * k9 + 1) = t.2.1 ∧ V183.2.1 13 (4 * k9 + 2) = t.2.2.1 ∧ V183.2.1 13 (4 * k9 + 3) = t.2.2.2) := fun t h9 => by
          obtain ⟨w9, x9, g1, g2, rfl⟩ := f2 t h9
          rw [h13, hv8 w9 g1, hv180 x9 g2]
          simp [upd]
        have hlo : ∀ i, i < 4 * k9 → V183.2.1 13 i = V.2.1 13 i := fun i hi => by rw [h13]; simp only [upd]; repeat rw [if_neg (by omega)]
        exact g_vret M hr hlk hR hS (by omega) (by omega) dX2_tell_184 (⟨_, rfl, (tQ.trans (tQ.trans (tQ.trans (tQ.trans (tQ.trans (tQ.trans (tQ.trans (tQ.trans tQ.rf hs8 (by decide)) hq11 (by decide)) hq23 (by decide)) hq35 (by decide)) hq46 (by decide)) hs62 (by decide)) hs180 (by decide)) hq183 (by decide)), hst, hfin, hlo⟩)
      · refine lv_aload_n hx hb dX2_tell_81 rfl (lv_at hl 0 rfl) ?_
        refine t_get M hA hR 13 (by decide) q1052 rfl rfl dX2_tell_82 ?_
        refine lv_iconst (v := (4 : Int32)) hx hb dX2_tell_85 (by decide) ?_
        refine lv_iload_n hx hb dX2_tell_86 rfl (lv_at hl 1 rfl) ?_
        refine lv_imul hx hb dX2_tell_87 ?_
        refine lv_iconst (v := (1 : Int32)) hx hb dX2_tell_88 (by decide) ?_
        refine lv_iadd hx hb dX2_tell_89 ?_
        refine lv_aload_n hx hb dX2_tell_90 rfl (lv_at hl 0 rfl) ?_
        refine g_ki (g_V (As := []) M hR hS (c_X2_wordHere l K hA ht hst) (lw_V q1222 q1224 qs37 q73 q1225) 0 md_X2_wordHere rfl ⟨rfl, rfl⟩ ⟨Nat.le_of_ble_eq_true rfl, Nat.le_of_ble_eq_true rfl⟩ (hR.recv M (tG_0 hA) rfl) rfl hl.1 rfl (lv_room (Nat.le_of_ble_eq_true rfl)) dX2_tell_91 ⟨(by first | exact Nat.le_refl _ | exact Nat.zero_le _ | (dsimp only; omega)), (by first | exact Nat.le_refl _ | exact Nat.zero_le _ | (dsimp only; omega))⟩) hS (fun r91 G91 H locs hp91 hR hS => ?_)
        obtain ⟨V91, rfl, hs91, hst, hv91⟩ := hp91
        have ht := ht.to hs91 (by decide) (by decide)
        have h13 := (hs91.arr (by decide)).trans h13
        refine t_astQ M hA hR hS 13 (by decide) (by first | assumption | rfl) (4 * k9 + 1) (ix_4 k9 1) (by show _ < 64; omega) dX2_tell_94 (fun V94 H locs hq94 hw94 hR hS => ?_)
        have h13 := hw94
        have ht := ht.to hq94 (by decide) (by decide)
        have hst : pSt V94 cs _ := ⟨(hq94.fld (by decide)).trans hst.1, (hq94.fld (by decide)).trans hst.2.1, hst.2.2⟩
        refine lv_aload_n hx hb dX2_tell_95 rfl (lv_at hl 0 rfl) ?_
        refine lv_aload_n hx hb dX2_tell_96 rfl (lv_at hl 0 rfl) ?_
        refine g_ki (g_V (As := []) M hR hS (c_X2_look l K hA ht hst) (lw_V q1226 q1228 qs38 q73 q1229) 0 md_X2_look rfl ⟨rfl, rfl⟩ ⟨Nat.le_of_ble_eq_true rfl, Nat.le_of_ble_eq_true rfl⟩ (hR.recv M (tG_0 hA) rfl) rfl hl.1 rfl (lv_room (Nat.le_of_ble_eq_true rfl)) dX2_tell_97 ⟨(by first | exact Nat.le_refl _ | exact Nat.zero_le _ | (dsimp only; omega)), (by first | exact Nat.le_refl _ | exact Nat.zero_le _ | (dsimp only; omega))⟩) hS (fun r97 G97 H locs hp97 hR hS => ?_)
        obtain ⟨rfl, rfl⟩ := hp97
        refine lv_bipush (v := (42 : Int32)) hx hb dX2_tell_100 (by decide) ?_
        refine lv_icmp_ne (tgt := 109) hx hb dX2_tell_102 (by decide) (fun c102 => ?_) (fun c102 => ?_)
        · refine lv_iconst (v := (0 : Int32)) hx hb dX2_tell_109 (by decide) ?_
          refine g_topi (bI (decide (pC cs (pPl (pPo (pGo (pWd cs) (pMu (decide (pC cs (pPl (pPo (pGo (pWd cs) ps))) = 61)) (pPo (pGo (pWd cs) ps)))))) = 42))) (by rw [decide_eq_false c102]; rfl) ?_
          refine g_kv (g_V (As := [_]) M hR hS (c_X2_must l K hA ht hst (decide (pC cs (pPl (pPo (pGo (pWd cs) (pMu (decide (pC cs (pPl (pPo (pGo (pWd cs) ps))) = 61)) (pPo (pGo (pWd cs) ps)))))) = 42)) (fun a h1 h2 => pC_lt (by have h2 := of_decide_eq_true h2; rw [h1] at h2; have h2 : pC cs a = 42 := h2; rw [h2]; decide))) (lw_V q1230 q1232 qs39 q73 q1233) 1 md_X2_must rfl ⟨rfl, rfl⟩ ⟨Nat.le_of_ble_eq_true rfl, Nat.le_of_ble_eq_true rfl⟩ (hR.recv M (tG_0 hA) rfl) rfl hl.1 rfl (lv_room (Nat.le_of_ble_eq_true rfl)) dX2_tell_110 ⟨(by first | exact Nat.le_refl _ | exact Nat.zero_le _ | (dsimp only; omega)), (by first | exact Nat.le_refl _ | exact Nat.zero_le _ | (dsimp only; omega))⟩) hS (fun G110 H locs hp110 hR hS => ?_)
          obtain ⟨V110, rfl, hs110, hst⟩ := hp110
          have ht := ht.to hs110 (by decide) (by decide)
          have h13 := (hs110.arr (by decide)).trans h13
          refine lv_aload_n hx hb dX2_tell_113 rfl (lv_at hl 0 rfl) ?_
          refine t_get M hA hR 13 (by decide) q1052 rfl rfl dX2_tell_114 ?_
          refine lv_iconst (v := (4 : Int32)) hx hb dX2_tell_117 (by decide) ?_
          refine lv_iload_n hx hb dX2_tell_118 rfl (lv_at hl 1 rfl) ?_
          refine lv_imul hx hb dX2_tell_119 ?_
          refine lv_iconst (v := (2 : Int32)) hx hb dX2_tell_120 (by decide) ?_
          refine lv_iadd hx hb dX2_tell_121 ?_
          refine lv_aload_n hx hb dX2_tell_122 rfl (lv_at hl 0 rfl) ?_
          refine g_ki (g_V (As := []) M hR hS (c_X2_tenths l K hA ht hst) (lw_V q1238 q1240 qs41 q73 q1241) 0 md_X2_tenths rfl ⟨rfl, rfl⟩ ⟨Nat.le_of_ble_eq_true rfl, Nat.le_of_ble_eq_true rfl⟩ (hR.recv M (tG_0 hA) rfl) rfl hl.1 rfl (lv_room (Nat.le_of_ble_eq_true rfl)) dX2_tell_123 ⟨(by first | exact Nat.le_refl _ | exact Nat.zero_le _ | (dsimp only; omega)), (by first | exact Nat.le_refl _ | exact Nat.zero_le _ | (dsimp only; omega))⟩) hS (fun r123 G123 H locs hp123 hR hS => ?_)
          obtain ⟨V123, rfl, hs123, hst, hv123⟩ := hp123
          have ht := ht.to hs123 (by decide) (by decide)
          have h13 := (hs123.arr (by decide)).trans h13
          refine t_astQ M hA hR hS 13 (by decide) (by first | assumption | rfl) (4 * k9 + 2) (ix_4 k9 2) (by show _ < 64; omega) dX2_tell_126 (fun V126 H locs hq126 hw126 hR hS => ?_)
          have h13 := hw126
          have ht := ht.to hq126 (by decide) (by decide)
          have hst : pSt V126 cs _ := ⟨(hq126.fld (by decide)).trans hst.1, (hq126.fld (by decide)).trans hst.2.1, hst.2.2⟩
          refine lv_aload_n hx hb dX2_tell_127 rfl (lv_at hl 0 rfl) ?_
          refine t_getE M hA hR 12 (by decide) (hst.2.1) q1051 rfl dX2_tell_128 ?_
          refine lv_if_ne (tgt := 184) hx hb dX2_tell_131 (by decide) (fun c131 => ?_) (fun c131 => ?_)
          · obtain ⟨e3, e4⟩ := e2 _ _ _ (bI_0.mp c69) c78 rfl rfl rfl
            obtain ⟨f1, f2⟩ := e3 (Or.inl (bI_n0.mp c131))
            have hst := hst
            rw [← f1] at hst
            have hfin : ∀ t, pVa (pGo (pOr cs) ps) = some t → (V126.2.1 13 (4 * k9) = t.1 ∧ V126.2.1 13 (4 * k9 + 1) = t.2.1 ∧ V126.2.1 13 (4 * k9 + 2) = t.2.2.1 ∧ V126.2.1 13 (4 * k9 + 3) = t.2.2.2) := fun t h9 => by
              obtain ⟨w9, u9, f9, g1, g2, g3, rfl⟩ := f2 t h9
              rw [h13, hv8 w9 g1, hv91 u9 g2, hv123 f9 g3]
              simp [upd]
            have hlo : ∀ i, i < 4 * k9 → V126.2.1 13 i = V.2.1 13 i := fun i hi => by rw [h13]; simp only [upd]; repeat rw [if_neg (by omega)]
            exact g_vret M hr hlk hR hS (by omega) (by omega) dX2_tell_184 (⟨_, rfl, (tQ.trans (tQ.trans (tQ.trans (tQ.trans (tQ.trans (tQ.trans (tQ.trans (tQ.trans (tQ.trans (tQ.trans (tQ.trans tQ.rf hs8 (by decide)) hq11 (by decide)) hq23 (by decide)) hq35 (by decide)) hq46 (by decide)) hs62 (by decide)) hs91 (by decide)) hq94 (by decide)) hs110 (by decide)) hs123 (by decide)) hq126 (by decide)), hst, hfin, hlo⟩)
          · refine lv_aload_n hx hb dX2_tell_134 rfl (lv_at hl 0 rfl) ?_
            refine g_ki (g_V (As := []) M hR hS (c_X2_look l K hA ht hst) (lw_V q1226 q1228 qs38 q73 q1229) 0 md_X2_look rfl ⟨rfl, rfl⟩ ⟨Nat.le_of_ble_eq_true rfl, Nat.le_of_ble_eq_true rfl⟩ (hR.recv M (tG_0 hA) rfl) rfl hl.1 rfl (lv_room (Nat.le_of_ble_eq_true rfl)) dX2_tell_135 ⟨(by first | exact Nat.le_refl _ | exact Nat.zero_le _ | (dsimp only; omega)), (by first | exact Nat.le_refl _ | exact Nat.zero_le _ | (dsimp only; omega))⟩) hS (fun r135 G135 H locs hp135 hR hS => ?_)
            obtain ⟨rfl, rfl⟩ := hp135
            refine lv_bipush (v := (43 : Int32)) hx hb dX2_tell_138 (by decide) ?_
            refine lv_icmp_ne (tgt := 184) hx hb dX2_tell_140 (by decide) (fun c140 => ?_) (fun c140 => ?_)
            · obtain ⟨e3, e4⟩ := e2 _ _ _ (bI_0.mp c69) c78 rfl rfl rfl
              obtain ⟨f1, f2⟩ := e3 (Or.inr c140)
              have hst := hst
              rw [← f1] at hst
              have hfin : ∀ t, pVa (pGo (pOr cs) ps) = some t → (V126.2.1 13 (4 * k9) = t.1 ∧ V126.2.1 13 (4 * k9 + 1) = t.2.1 ∧ V126.2.1 13 (4 * k9 + 2) = t.2.2.1 ∧ V126.2.1 13 (4 * k9 + 3) = t.2.2.2) := fun t h9 => by
                obtain ⟨w9, u9, f9, g1, g2, g3, rfl⟩ := f2 t h9
                rw [h13, hv8 w9 g1, hv91 u9 g2, hv123 f9 g3]
                simp [upd]
              have hlo : ∀ i, i < 4 * k9 → V126.2.1 13 i = V.2.1 13 i := fun i hi => by rw [h13]; simp only [upd]; repeat rw [if_neg (by omega)]
              exact g_vret M hr hlk hR hS (by omega) (by omega) dX2_tell_184 (⟨_, rfl, (tQ.trans (tQ.trans (tQ.trans (tQ.trans (tQ.trans (tQ.trans (tQ.trans (tQ.trans (tQ.trans (tQ.trans (tQ.trans tQ.rf hs8 (by decide)) hq11 (by decide)) hq23 (by decide)) hq35 (by decide)) hq46 (by decide)) hs62 (by decide)) hs91 (by decide)) hq94 (by decide)) hs110 (by decide)) hs123 (by decide)) hq126 (by decide)), hst, hfin, hlo⟩)
            · obtain ⟨a9, ha9⟩ := pWr_f (bI_0.mp c131)
              rw [ha9] at hst c140
              have c140 : pC cs a9 = 43 := c140
              refine lv_aload_n hx hb dX2_tell_143 rfl (lv_at hl 0 rfl) ?_
              refine lv_dup hx hb dX2_tell_144 rfl ?_
              refine t_getE M hA hR 11 (by decide) (hst.1) q1050 rfl dX2_tell_145 ?_
              refine lv_iconst (v := (1 : Int32)) hx hb dX2_tell_148 (by decide) ?_
              refine lv_iadd hx hb dX2_tell_149 ?_
              refine g_topi (nI (a9 + 1)) (nI_1 a9) ?_
              refine t_putQ M hA hR hS 11 (by decide) q1050 ⟨rfl, rfl⟩ rfl rfl dX2_tell_150 (fun V150 H locs hq150 hw150 hz150 hR hS => ?_)
              have ht := ht.to hq150 (by decide) (by decide)
              have hst : pSt V150 cs (.inr (a9 + 1)) := ⟨hw150, (hq150.fld (by decide)).trans hst.2.1, pC_lt (by rw [c140]; decide)⟩
              have h13 := (hq150.arr (by decide)).trans h13
              refine lv_aload_n hx hb dX2_tell_153 rfl (lv_at hl 0 rfl) ?_
              refine t_get M hA hR 13 (by decide) q1052 rfl rfl dX2_tell_154 ?_
              refine lv_iconst (v := (4 : Int32)) hx hb dX2_tell_157 (by decide) ?_
              refine lv_iload_n hx hb dX2_tell_158 rfl (lv_at hl 1 rfl) ?_
              refine lv_imul hx hb dX2_tell_159 ?_
              refine lv_iconst (v := (3 : Int32)) hx hb dX2_tell_160 (by decide) ?_
              refine lv_iadd hx hb dX2_tell_161 ?_
              refine lv_aload_n hx hb dX2_tell_162 rfl (lv_at hl 0 rfl) ?_
              refine g_ki (g_V (As := []) M hR hS (c_X2_tenths l K hA ht hst) (lw_V q1238 q1240 qs41 q73 q1241) 0 md_X2_tenths rfl ⟨rfl, rfl⟩ ⟨Nat.le_of_ble_eq_true rfl, Nat.le_of_ble_eq_true rfl⟩ (hR.recv M (tG_0 hA) rfl) rfl hl.1 rfl (lv_room (Nat.le_of_ble_eq_true rfl)) dX2_tell_163 ⟨(by first | exact Nat.le_refl _ | exact Nat.zero_le _ | (dsimp only; omega)), (by first | exact Nat.le_refl _ | exact Nat.zero_le _ | (dsimp only; omega))⟩) hS (fun r163 G163 H locs hp163 hR hS => ?_)
              obtain ⟨V163, rfl, hs163, hst, hv163⟩ := hp163
              have ht := ht.to hs163 (by decide) (by decide)
              have h13 := (hs163.arr (by decide)).trans h13
              refine t_astQ M hA hR hS 13 (by decide) (by first | assumption | rfl) (4 * k9 + 3) (ix_4 k9 3) (by show _ < 64; omega) dX2_tell_166 (fun V166 H locs hq166 hw166 hR hS => ?_)
              have h13 := hw166
              refine lv_goto (tgt := 184) hx hb dX2_tell_167 (by decide) ?_
              have ht := ht.to hq166 (by decide) (by decide)
              have hst : pSt V166 cs _ := ⟨(hq166.fld (by decide)).trans hst.1, (hq166.fld (by decide)).trans hst.2.1, hst.2.2⟩
              obtain ⟨e3, e4⟩ := e2 _ _ _ (bI_0.mp c69) c78 rfl rfl rfl
              obtain ⟨f1, f2⟩ := e4 a9 ha9 c140
              have hst := hst
              rw [← f1] at hst
              have hfin : ∀ t, pVa (pGo (pOr cs) ps) = some t → (V166.2.1 13 (4 * k9) = t.1 ∧ V166.2.1 13 (4 * k9 + 1) = t.2.1 ∧ V166.2.1 13 (4 * k9 + 2) = t.2.2.1 ∧ V166.2.1 13 (4 * k9 + 3) = t.2.2.2) := fun t h9 => by
                obtain ⟨w9, u9, f9, x9, g1, g2, g3, g4, rfl⟩ := f2 t h9
                rw [h13, hv8 w9 g1, hv91 u9 g2, hv123 f9 g3, hv163 x9 g4]
                simp [upd]
              have hlo : ∀ i, i < 4 * k9 → V166.2.1 13 i = V.2.1 13 i := fun i hi => by rw [h13]; simp only [upd]; repeat rw [if_neg (by omega)]
              exact g_vret M hr hlk hR hS (by omega) (by omega) dX2_tell_184 (⟨_, rfl, (tQ.trans (tQ.trans (tQ.trans (tQ.trans (tQ.trans (tQ.trans (tQ.trans (tQ.trans (tQ.trans (tQ.trans (tQ.trans (tQ.trans (tQ.trans (tQ.trans tQ.rf hs8 (by decide)) hq11 (by decide)) hq23 (by decide)) hq35 (by decide)) hq46 (by decide)) hs62 (by decide)) hs91 (by decide)) hq94 (by decide)) hs110 (by decide)) hs123 (by decide)) hq126 (by decide)) hq150 (by decide)) hs163 (by decide)) hq166 (by decide)), hst, hfin, hlo⟩)
        · refine lv_iconst (v := (1 : Int32)) hx hb dX2_tell_105 (by decide) ?_
          refine lv_goto (tgt := 110) hx hb dX2_tell_106 (by decide) ?_
          refine g_topi (bI (decide (pC cs (pPl (pPo (pGo (pWd cs) (pMu (decide (pC cs (pPl (pPo (pGo (pWd cs) ps))) = 61)) (pPo (pGo (pWd cs) ps)))))) = 42))) (by rw [decide_eq_true c102]; rfl) ?_
          refine g_kv (g_V (As := [_]) M hR hS (c_X2_must l K hA ht hst (decide (pC cs (pPl (pPo (pGo (pWd cs) (pMu (decide (pC cs (pPl (pPo (pGo (pWd cs) ps))) = 61)) (pPo (pGo (pWd cs) ps)))))) = 42)) (fun a h1 h2 => pC_lt (by have h2 := of_decide_eq_true h2; rw [h1] at h2; have h2 : pC cs a = 42 := h2; rw [h2]; decide))) (lw_V q1230 q1232 qs39 q73 q1233) 1 md_X2_must rfl ⟨rfl, rfl⟩ ⟨Nat.le_of_ble_eq_true rfl, Nat.le_of_ble_eq_true rfl⟩ (hR.recv M (tG_0 hA) rfl) rfl hl.1 rfl (lv_room (Nat.le_of_ble_eq_true rfl)) dX2_tell_110 ⟨(by first | exact Nat.le_refl _ | exact Nat.zero_le _ | (dsimp only; omega)), (by first | exact Nat.le_refl _ | exact Nat.zero_le _ | (dsimp only; omega))⟩) hS (fun G110 H locs hp110 hR hS => ?_)
          obtain ⟨V110, rfl, hs110, hst⟩ := hp110
          have ht := ht.to hs110 (by decide) (by decide)
          have h13 := (hs110.arr (by decide)).trans h13
          refine lv_aload_n hx hb dX2_tell_113 rfl (lv_at hl 0 rfl) ?_
          refine t_get M hA hR 13 (by decide) q1052 rfl rfl dX2_tell_114 ?_
          refine lv_iconst (v := (4 : Int32)) hx hb dX2_tell_117 (by decide) ?_
          refine lv_iload_n hx hb dX2_tell_118 rfl (lv_at hl 1 rfl) ?_
          refine lv_imul hx hb dX2_tell_119 ?_
          refine lv_iconst (v := (2 : Int32)) hx hb dX2_tell_120 (by decide) ?_
          refine lv_iadd hx hb dX2_tell_121 ?_
          refine lv_aload_n hx hb dX2_tell_122 rfl (lv_at hl 0 rfl) ?_
          refine g_ki (g_V (As := []) M hR hS (c_X2_tenths l K hA ht hst) (lw_V q1238 q1240 qs41 q73 q1241) 0 md_X2_tenths rfl ⟨rfl, rfl⟩ ⟨Nat.le_of_ble_eq_true rfl, Nat.le_of_ble_eq_true rfl⟩ (hR.recv M (tG_0 hA) rfl) rfl hl.1 rfl (lv_room (Nat.le_of_ble_eq_true rfl)) dX2_tell_123 ⟨(by first | exact Nat.le_refl _ | exact Nat.zero_le _ | (dsimp only; omega)), (by first | exact Nat.le_refl _ | exact Nat.zero_le _ | (dsimp only; omega))⟩) hS (fun r123 G123 H locs hp123 hR hS => ?_)
          obtain ⟨V123, rfl, hs123, hst, hv123⟩ := hp123
          have ht := ht.to hs123 (by decide) (by decide)
          have h13 := (hs123.arr (by decide)).trans h13
          refine t_astQ M hA hR hS 13 (by decide) (by first | assumption | rfl) (4 * k9 + 2) (ix_4 k9 2) (by show _ < 64; omega) dX2_tell_126 (fun V126 H locs hq126 hw126 hR hS => ?_)
          have h13 := hw126
          have ht := ht.to hq126 (by decide) (by decide)
          have hst : pSt V126 cs _ := ⟨(hq126.fld (by decide)).trans hst.1, (hq126.fld (by decide)).trans hst.2.1, hst.2.2⟩
          refine lv_aload_n hx hb dX2_tell_127 rfl (lv_at hl 0 rfl) ?_
          refine t_getE M hA hR 12 (by decide) (hst.2.1) q1051 rfl dX2_tell_128 ?_
          refine lv_if_ne (tgt := 184) hx hb dX2_tell_131 (by decide) (fun c131 => ?_) (fun c131 => ?_)
          · obtain ⟨e3, e4⟩ := e2 _ _ _ (bI_0.mp c69) c78 rfl rfl rfl
            obtain ⟨f1, f2⟩ := e3 (Or.inl (bI_n0.mp c131))
            have hst := hst
            rw [← f1] at hst
            have hfin : ∀ t, pVa (pGo (pOr cs) ps) = some t → (V126.2.1 13 (4 * k9) = t.1 ∧ V126.2.1 13 (4 * k9 + 1) = t.2.1 ∧ V126.2.1 13 (4 * k9 + 2) = t.2.2.1 ∧ V126.2.1 13 (4 * k9 + 3) = t.2.2.2) := fun t h9 => by
              obtain ⟨w9, u9, f9, g1, g2, g3, rfl⟩ := f2 t h9
              rw [h13, hv8 w9 g1, hv91 u9 g2, hv123 f9 g3]
              simp [upd]
            have hlo : ∀ i, i < 4 * k9 → V126.2.1 13 i = V.2.1 13 i := fun i hi => by rw [h13]; simp only [upd]; repeat rw [if_neg (by omega)]
            exact g_vret M hr hlk hR hS (by omega) (by omega) dX2_tell_184 (⟨_, rfl, (tQ.trans (tQ.trans (tQ.trans (tQ.trans (tQ.trans (tQ.trans (tQ.trans (tQ.trans (tQ.trans (tQ.trans (tQ.trans tQ.rf hs8 (by decide)) hq11 (by decide)) hq23 (by decide)) hq35 (by decide)) hq46 (by decide)) hs62 (by decide)) hs91 (by decide)) hq94 (by decide)) hs110 (by decide)) hs123 (by decide)) hq126 (by decide)), hst, hfin, hlo⟩)
          · refine lv_aload_n hx hb dX2_tell_134 rfl (lv_at hl 0 rfl) ?_
            refine g_ki (g_V (As := []) M hR hS (c_X2_look l K hA ht hst) (lw_V q1226 q1228 qs38 q73 q1229) 0 md_X2_look rfl ⟨rfl, rfl⟩ ⟨Nat.le_of_ble_eq_true rfl, Nat.le_of_ble_eq_true rfl⟩ (hR.recv M (tG_0 hA) rfl) rfl hl.1 rfl (lv_room (Nat.le_of_ble_eq_true rfl)) dX2_tell_135 ⟨(by first | exact Nat.le_refl _ | exact Nat.zero_le _ | (dsimp only; omega)), (by first | exact Nat.le_refl _ | exact Nat.zero_le _ | (dsimp only; omega))⟩) hS (fun r135 G135 H locs hp135 hR hS => ?_)
            obtain ⟨rfl, rfl⟩ := hp135
            refine lv_bipush (v := (43 : Int32)) hx hb dX2_tell_138 (by decide) ?_
            refine lv_icmp_ne (tgt := 184) hx hb dX2_tell_140 (by decide) (fun c140 => ?_) (fun c140 => ?_)
            · obtain ⟨e3, e4⟩ := e2 _ _ _ (bI_0.mp c69) c78 rfl rfl rfl
              obtain ⟨f1, f2⟩ := e3 (Or.inr c140)
              have hst := hst
              rw [← f1] at hst
              have hfin : ∀ t, pVa (pGo (pOr cs) ps) = some t → (V126.2.1 13 (4 * k9) = t.1 ∧ V126.2.1 13 (4 * k9 + 1) = t.2.1 ∧ V126.2.1 13 (4 * k9 + 2) = t.2.2.1 ∧ V126.2.1 13 (4 * k9 + 3) = t.2.2.2) := fun t h9 => by
                obtain ⟨w9, u9, f9, g1, g2, g3, rfl⟩ := f2 t h9
                rw [h13, hv8 w9 g1, hv91 u9 g2, hv123 f9 g3]
                simp [upd]
              have hlo : ∀ i, i < 4 * k9 → V126.2.1 13 i = V.2.1 13 i := fun i hi => by rw [h13]; simp only [upd]; repeat rw [if_neg (by omega)]
              exact g_vret M hr hlk hR hS (by omega) (by omega) dX2_tell_184 (⟨_, rfl, (tQ.trans (tQ.trans (tQ.trans (tQ.trans (tQ.trans (tQ.trans (tQ.trans (tQ.trans (tQ.trans (tQ.trans (tQ.trans tQ.rf hs8 (by decide)) hq11 (by decide)) hq23 (by decide)) hq35 (by decide)) hq46 (by decide)) hs62 (by decide)) hs91 (by decide)) hq94 (by decide)) hs110 (by decide)) hs123 (by decide)) hq126 (by decide)), hst, hfin, hlo⟩)
            · obtain ⟨a9, ha9⟩ := pWr_f (bI_0.mp c131)
              rw [ha9] at hst c140
              have c140 : pC cs a9 = 43 := c140
              refine lv_aload_n hx hb dX2_tell_143 rfl (lv_at hl 0 rfl) ?_
              refine lv_dup hx hb dX2_tell_144 rfl ?_
              refine t_getE M hA hR 11 (by decide) (hst.1) q1050 rfl dX2_tell_145 ?_
              refine lv_iconst (v := (1 : Int32)) hx hb dX2_tell_148 (by decide) ?_
              refine lv_iadd hx hb dX2_tell_149 ?_
              refine g_topi (nI (a9 + 1)) (nI_1 a9) ?_
              refine t_putQ M hA hR hS 11 (by decide) q1050 ⟨rfl, rfl⟩ rfl rfl dX2_tell_150 (fun V150 H locs hq150 hw150 hz150 hR hS => ?_)
              have ht := ht.to hq150 (by decide) (by decide)
              have hst : pSt V150 cs (.inr (a9 + 1)) := ⟨hw150, (hq150.fld (by decide)).trans hst.2.1, pC_lt (by rw [c140]; decide)⟩
              have h13 := (hq150.arr (by decide)).trans h13
              refine lv_aload_n hx hb dX2_tell_153 rfl (lv_at hl 0 rfl) ?_
              refine t_get M hA hR 13 (by decide) q1052 rfl rfl dX2_tell_154 ?_
              refine lv_iconst (v := (4 : Int32)) hx hb dX2_tell_157 (by decide) ?_
              refine lv_iload_n hx hb dX2_tell_158 rfl (lv_at hl 1 rfl) ?_
              refine lv_imul hx hb dX2_tell_159 ?_
              refine lv_iconst (v := (3 : Int32)) hx hb dX2_tell_160 (by decide) ?_
              refine lv_iadd hx hb dX2_tell_161 ?_
              refine lv_aload_n hx hb dX2_tell_162 rfl (lv_at hl 0 rfl) ?_
              refine g_ki (g_V (As := []) M hR hS (c_X2_tenths l K hA ht hst) (lw_V q1238 q1240 qs41 q73 q1241) 0 md_X2_tenths rfl ⟨rfl, rfl⟩ ⟨Nat.le_of_ble_eq_true rfl, Nat.le_of_ble_eq_true rfl⟩ (hR.recv M (tG_0 hA) rfl) rfl hl.1 rfl (lv_room (Nat.le_of_ble_eq_true rfl)) dX2_tell_163 ⟨(by first | exact Nat.le_refl _ | exact Nat.zero_le _ | (dsimp only; omega)), (by first | exact Nat.le_refl _ | exact Nat.zero_le _ | (dsimp only; omega))⟩) hS (fun r163 G163 H locs hp163 hR hS => ?_)
              obtain ⟨V163, rfl, hs163, hst, hv163⟩ := hp163
              have ht := ht.to hs163 (by decide) (by decide)
              have h13 := (hs163.arr (by decide)).trans h13
              refine t_astQ M hA hR hS 13 (by decide) (by first | assumption | rfl) (4 * k9 + 3) (ix_4 k9 3) (by show _ < 64; omega) dX2_tell_166 (fun V166 H locs hq166 hw166 hR hS => ?_)
              have h13 := hw166
              refine lv_goto (tgt := 184) hx hb dX2_tell_167 (by decide) ?_
              have ht := ht.to hq166 (by decide) (by decide)
              have hst : pSt V166 cs _ := ⟨(hq166.fld (by decide)).trans hst.1, (hq166.fld (by decide)).trans hst.2.1, hst.2.2⟩
              obtain ⟨e3, e4⟩ := e2 _ _ _ (bI_0.mp c69) c78 rfl rfl rfl
              obtain ⟨f1, f2⟩ := e4 a9 ha9 c140
              have hst := hst
              rw [← f1] at hst
              have hfin : ∀ t, pVa (pGo (pOr cs) ps) = some t → (V166.2.1 13 (4 * k9) = t.1 ∧ V166.2.1 13 (4 * k9 + 1) = t.2.1 ∧ V166.2.1 13 (4 * k9 + 2) = t.2.2.1 ∧ V166.2.1 13 (4 * k9 + 3) = t.2.2.2) := fun t h9 => by
                obtain ⟨w9, u9, f9, x9, g1, g2, g3, g4, rfl⟩ := f2 t h9
                rw [h13, hv8 w9 g1, hv91 u9 g2, hv123 f9 g3, hv163 x9 g4]
                simp [upd]
              have hlo : ∀ i, i < 4 * k9 → V166.2.1 13 i = V.2.1 13 i := fun i hi => by rw [h13]; simp only [upd]; repeat rw [if_neg (by omega)]
              exact g_vret M hr hlk hR hS (by omega) (by omega) dX2_tell_184 (⟨_, rfl, (tQ.trans (tQ.trans (tQ.trans (tQ.trans (tQ.trans (tQ.trans (tQ.trans (tQ.trans (tQ.trans (tQ.trans (tQ.trans (tQ.trans (tQ.trans (tQ.trans tQ.rf hs8 (by decide)) hq11 (by decide)) hq23 (by decide)) hq35 (by decide)) hq46 (by decide)) hs62 (by decide)) hs91 (by decide)) hq94 (by decide)) hs110 (by decide)) hs123 (by decide)) hq126 (by decide)) hq150 (by decide)) hs163 (by decide)) hq166 (by decide)), hst, hfin, hlo⟩)
  · refine lv_iconst (v := (1 : Int32)) hx hb dX2_tell_57 (by decide) ?_
    refine lv_goto (tgt := 62) hx hb dX2_tell_58 (by decide) ?_
    refine g_topi (bI (decide (pC cs (pPl (pPo (pGo (pWd cs) ps))) = 61))) (by rw [decide_eq_true c54]; rfl) ?_
    refine g_kv (g_V (As := [_]) M hR hS (c_X2_must l K hA ht hst (decide (pC cs (pPl (pPo (pGo (pWd cs) ps))) = 61)) (fun a h1 h2 => pC_lt (by have h2 := of_decide_eq_true h2; rw [h1] at h2; have h2 : pC cs a = 61 := h2; rw [h2]; decide))) (lw_V q1230 q1232 qs39 q73 q1233) 1 md_X2_must rfl ⟨rfl, rfl⟩ ⟨Nat.le_of_ble_eq_true rfl, Nat.le_of_ble_eq_true rfl⟩ (hR.recv M (tG_0 hA) rfl) rfl hl.1 rfl (lv_room (Nat.le_of_ble_eq_true rfl)) dX2_tell_62 ⟨(by first | exact Nat.le_refl _ | exact Nat.zero_le _ | (dsimp only; omega)), (by first | exact Nat.le_refl _ | exact Nat.zero_le _ | (dsimp only; omega))⟩) hS (fun G62 H locs hp62 hR hS => ?_)
    obtain ⟨V62, rfl, hs62, hst⟩ := hp62
    have ht := ht.to hs62 (by decide) (by decide)
    have h13 := (hs62.arr (by decide)).trans h13
    obtain ⟨e1, e2⟩ := pOr_go (ps0 := ps) rfl rfl
    refine lv_aload_n hx hb dX2_tell_65 rfl (lv_at hl 0 rfl) ?_
    refine t_getE M hA hR 12 (by decide) (hst.2.1) q1051 rfl dX2_tell_66 ?_
    refine lv_if_ne (tgt := 170) hx hb dX2_tell_69 (by decide) (fun c69 => ?_) (fun c69 => ?_)
    · refine lv_aload_n hx hb dX2_tell_170 rfl (lv_at hl 0 rfl) ?_
      refine t_get M hA hR 13 (by decide) q1052 rfl rfl dX2_tell_171 ?_
      refine lv_iconst (v := (4 : Int32)) hx hb dX2_tell_174 (by decide) ?_
      refine lv_iload_n hx hb dX2_tell_175 rfl (lv_at hl 1 rfl) ?_
      refine lv_imul hx hb dX2_tell_176 ?_
      refine lv_iconst (v := (3 : Int32)) hx hb dX2_tell_177 (by decide) ?_
      refine lv_iadd hx hb dX2_tell_178 ?_
      refine lv_aload_n hx hb dX2_tell_179 rfl (lv_at hl 0 rfl) ?_
      refine g_ki (g_V (As := []) M hR hS (c_X2_tenths l K hA ht hst) (lw_V q1238 q1240 qs41 q73 q1241) 0 md_X2_tenths rfl ⟨rfl, rfl⟩ ⟨Nat.le_of_ble_eq_true rfl, Nat.le_of_ble_eq_true rfl⟩ (hR.recv M (tG_0 hA) rfl) rfl hl.1 rfl (lv_room (Nat.le_of_ble_eq_true rfl)) dX2_tell_180 ⟨(by first | exact Nat.le_refl _ | exact Nat.zero_le _ | (dsimp only; omega)), (by first | exact Nat.le_refl _ | exact Nat.zero_le _ | (dsimp only; omega))⟩) hS (fun r180 G180 H locs hp180 hR hS => ?_)
      obtain ⟨V180, rfl, hs180, hst, hv180⟩ := hp180
      have ht := ht.to hs180 (by decide) (by decide)
      have h13 := (hs180.arr (by decide)).trans h13
      refine t_astQ M hA hR hS 13 (by decide) (by first | assumption | rfl) (4 * k9 + 3) (ix_4 k9 3) (by show _ < 64; omega) dX2_tell_183 (fun V183 H locs hq183 hw183 hR hS => ?_)
      have h13 := hw183
      have ht := ht.to hq183 (by decide) (by decide)
      have hst : pSt V183 cs _ := ⟨(hq183.fld (by decide)).trans hst.1, (hq183.fld (by decide)).trans hst.2.1, hst.2.2⟩
      obtain ⟨f1, f2⟩ := e1 (Or.inl (bI_n0.mp c69))
      have hst := hst
      rw [← f1] at hst
      have hfin : ∀ t, pVa (pGo (pOr cs) ps) = some t → (V183.2.1 13 (4 * k9) = t.1 ∧ V183.2.1 13 (4 * k9 + 1) = t.2.1 ∧ V183.2.1 13 (4 * k9 + 2) = t.2.2.1 ∧ V183.2.1 13 (4 * k9 + 3) = t.2.2.2) := fun t h9 => by
        obtain ⟨w9, x9, g1, g2, rfl⟩ := f2 t h9
        rw [h13, hv8 w9 g1, hv180 x9 g2]
        simp [upd]
      have hlo : ∀ i, i < 4 * k9 → V183.2.1 13 i = V.2.1 13 i := fun i hi => by rw [h13]; simp only [upd]; repeat rw [if_neg (by omega)]
      exact g_vret M hr hlk hR hS (by omega) (by omega) dX2_tell_184 (⟨_, rfl, (tQ.trans (tQ.trans (tQ.trans (tQ.trans (tQ.trans (tQ.trans (tQ.trans (tQ.trans tQ.rf hs8 (by decide)) hq11 (by decide)) hq23 (by decide)) hq35 (by decide)) hq46 (by decide)) hs62 (by decide)) hs180 (by decide)) hq183 (by decide)), hst, hfin, hlo⟩)
    · refine lv_aload_n hx hb dX2_tell_72 rfl (lv_at hl 0 rfl) ?_
      refine g_ki (g_V (As := []) M hR hS (c_X2_look l K hA ht hst) (lw_V q1226 q1228 qs38 q73 q1229) 0 md_X2_look rfl ⟨rfl, rfl⟩ ⟨Nat.le_of_ble_eq_true rfl, Nat.le_of_ble_eq_true rfl⟩ (hR.recv M (tG_0 hA) rfl) rfl hl.1 rfl (lv_room (Nat.le_of_ble_eq_true rfl)) dX2_tell_73 ⟨(by first | exact Nat.le_refl _ | exact Nat.zero_le _ | (dsimp only; omega)), (by first | exact Nat.le_refl _ | exact Nat.zero_le _ | (dsimp only; omega))⟩) hS (fun r73 G73 H locs hp73 hR hS => ?_)
      obtain ⟨rfl, rfl⟩ := hp73
      refine lv_bipush (v := (119 : Int32)) hx hb dX2_tell_76 (by decide) ?_
      refine lv_icmp_ne (tgt := 170) hx hb dX2_tell_78 (by decide) (fun c78 => ?_) (fun c78 => ?_)
      · refine lv_aload_n hx hb dX2_tell_170 rfl (lv_at hl 0 rfl) ?_
        refine t_get M hA hR 13 (by decide) q1052 rfl rfl dX2_tell_171 ?_
        refine lv_iconst (v := (4 : Int32)) hx hb dX2_tell_174 (by decide) ?_
        refine lv_iload_n hx hb dX2_tell_175 rfl (lv_at hl 1 rfl) ?_
        refine lv_imul hx hb dX2_tell_176 ?_
        refine lv_iconst (v := (3 : Int32)) hx hb dX2_tell_177 (by decide) ?_
        refine lv_iadd hx hb dX2_tell_178 ?_
        refine lv_aload_n hx hb dX2_tell_179 rfl (lv_at hl 0 rfl) ?_
        refine g_ki (g_V (As := []) M hR hS (c_X2_tenths l K hA ht hst) (lw_V q1238 q1240 qs41 q73 q1241) 0 md_X2_tenths rfl ⟨rfl, rfl⟩ ⟨Nat.le_of_ble_eq_true rfl, Nat.le_of_ble_eq_true rfl⟩ (hR.recv M (tG_0 hA) rfl) rfl hl.1 rfl (lv_room (Nat.le_of_ble_eq_true rfl)) dX2_tell_180 ⟨(by first | exact Nat.le_refl _ | exact Nat.zero_le _ | (dsimp only; omega)), (by first | exact Nat.le_refl _ | exact Nat.zero_le _ | (dsimp only; omega))⟩) hS (fun r180 G180 H locs hp180 hR hS => ?_)
        obtain ⟨V180, rfl, hs180, hst, hv180⟩ := hp180
        have ht := ht.to hs180 (by decide) (by decide)
        have h13 := (hs180.arr (by decide)).trans h13
        refine t_astQ M hA hR hS 13 (by decide) (by first | assumption | rfl) (4 * k9 + 3) (ix_4 k9 3) (by show _ < 64; omega) dX2_tell_183 (fun V183 H locs hq183 hw183 hR hS => ?_)
        have h13 := hw183
        have ht := ht.to hq183 (by decide) (by decide)
        have hst : pSt V183 cs _ := ⟨(hq183.fld (by decide)).trans hst.1, (hq183.fld (by decide)).trans hst.2.1, hst.2.2⟩
        obtain ⟨f1, f2⟩ := e1 (Or.inr c78)
        have hst := hst
        rw [← f1] at hst
        have hfin : ∀ t, pVa (pGo (pOr cs) ps) = some t → (V183.2.1 13 (4 * k9) = t.1 ∧ V183.2.1 13 (4 * k9 + 1) = t.2.1 ∧ V183.2.1 13 (4 * k9 + 2) = t.2.2.1 ∧ V183.2.1 13 (4 * k9 + 3) = t.2.2.2) := fun t h9 => by
          obtain ⟨w9, x9, g1, g2, rfl⟩ := f2 t h9
          rw [h13, hv8 w9 g1, hv180 x9 g2]
          simp [upd]
        have hlo : ∀ i, i < 4 * k9 → V183.2.1 13 i = V.2.1 13 i := fun i hi => by rw [h13]; simp only [upd]; repeat rw [if_neg (by omega)]
        exact g_vret M hr hlk hR hS (by omega) (by omega) dX2_tell_184 (⟨_, rfl, (tQ.trans (tQ.trans (tQ.trans (tQ.trans (tQ.trans (tQ.trans (tQ.trans (tQ.trans tQ.rf hs8 (by decide)) hq11 (by decide)) hq23 (by decide)) hq35 (by decide)) hq46 (by decide)) hs62 (by decide)) hs180 (by decide)) hq183 (by decide)), hst, hfin, hlo⟩)
      · refine lv_aload_n hx hb dX2_tell_81 rfl (lv_at hl 0 rfl) ?_
        refine t_get M hA hR 13 (by decide) q1052 rfl rfl dX2_tell_82 ?_
        refine lv_iconst (v := (4 : Int32)) hx hb dX2_tell_85 (by decide) ?_
        refine lv_iload_n hx hb dX2_tell_86 rfl (lv_at hl 1 rfl) ?_
        refine lv_imul hx hb dX2_tell_87 ?_
        refine lv_iconst (v := (1 : Int32)) hx hb dX2_tell_88 (by decide) ?_
        refine lv_iadd hx hb dX2_tell_89 ?_
        refine lv_aload_n hx hb dX2_tell_90 rfl (lv_at hl 0 rfl) ?_
        refine g_ki (g_V (As := []) M hR hS (c_X2_wordHere l K hA ht hst) (lw_V q1222 q1224 qs37 q73 q1225) 0 md_X2_wordHere rfl ⟨rfl, rfl⟩ ⟨Nat.le_of_ble_eq_true rfl, Nat.le_of_ble_eq_true rfl⟩ (hR.recv M (tG_0 hA) rfl) rfl hl.1 rfl (lv_room (Nat.le_of_ble_eq_true rfl)) dX2_tell_91 ⟨(by first | exact Nat.le_refl _ | exact Nat.zero_le _ | (dsimp only; omega)), (by first | exact Nat.le_refl _ | exact Nat.zero_le _ | (dsimp only; omega))⟩) hS (fun r91 G91 H locs hp91 hR hS => ?_)
        obtain ⟨V91, rfl, hs91, hst, hv91⟩ := hp91
        have ht := ht.to hs91 (by decide) (by decide)
        have h13 := (hs91.arr (by decide)).trans h13
        refine t_astQ M hA hR hS 13 (by decide) (by first | assumption | rfl) (4 * k9 + 1) (ix_4 k9 1) (by show _ < 64; omega) dX2_tell_94 (fun V94 H locs hq94 hw94 hR hS => ?_)
        have h13 := hw94
        have ht := ht.to hq94 (by decide) (by decide)
        have hst : pSt V94 cs _ := ⟨(hq94.fld (by decide)).trans hst.1, (hq94.fld (by decide)).trans hst.2.1, hst.2.2⟩
        refine lv_aload_n hx hb dX2_tell_95 rfl (lv_at hl 0 rfl) ?_
        refine lv_aload_n hx hb dX2_tell_96 rfl (lv_at hl 0 rfl) ?_
        refine g_ki (g_V (As := []) M hR hS (c_X2_look l K hA ht hst) (lw_V q1226 q1228 qs38 q73 q1229) 0 md_X2_look rfl ⟨rfl, rfl⟩ ⟨Nat.le_of_ble_eq_true rfl, Nat.le_of_ble_eq_true rfl⟩ (hR.recv M (tG_0 hA) rfl) rfl hl.1 rfl (lv_room (Nat.le_of_ble_eq_true rfl)) dX2_tell_97 ⟨(by first | exact Nat.le_refl _ | exact Nat.zero_le _ | (dsimp only; omega)), (by first | exact Nat.le_refl _ | exact Nat.zero_le _ | (dsimp only; omega))⟩) hS (fun r97 G97 H locs hp97 hR hS => ?_)
        obtain ⟨rfl, rfl⟩ := hp97
        refine lv_bipush (v := (42 : Int32)) hx hb dX2_tell_100 (by decide) ?_
        refine lv_icmp_ne (tgt := 109) hx hb dX2_tell_102 (by decide) (fun c102 => ?_) (fun c102 => ?_)
        · refine lv_iconst (v := (0 : Int32)) hx hb dX2_tell_109 (by decide) ?_
          refine g_topi (bI (decide (pC cs (pPl (pPo (pGo (pWd cs) (pMu (decide (pC cs (pPl (pPo (pGo (pWd cs) ps))) = 61)) (pPo (pGo (pWd cs) ps)))))) = 42))) (by rw [decide_eq_false c102]; rfl) ?_
          refine g_kv (g_V (As := [_]) M hR hS (c_X2_must l K hA ht hst (decide (pC cs (pPl (pPo (pGo (pWd cs) (pMu (decide (pC cs (pPl (pPo (pGo (pWd cs) ps))) = 61)) (pPo (pGo (pWd cs) ps)))))) = 42)) (fun a h1 h2 => pC_lt (by have h2 := of_decide_eq_true h2; rw [h1] at h2; have h2 : pC cs a = 42 := h2; rw [h2]; decide))) (lw_V q1230 q1232 qs39 q73 q1233) 1 md_X2_must rfl ⟨rfl, rfl⟩ ⟨Nat.le_of_ble_eq_true rfl, Nat.le_of_ble_eq_true rfl⟩ (hR.recv M (tG_0 hA) rfl) rfl hl.1 rfl (lv_room (Nat.le_of_ble_eq_true rfl)) dX2_tell_110 ⟨(by first | exact Nat.le_refl _ | exact Nat.zero_le _ | (dsimp only; omega)), (by first | exact Nat.le_refl _ | exact Nat.zero_le _ | (dsimp only; omega))⟩) hS (fun G110 H locs hp110 hR hS => ?_)
          obtain ⟨V110, rfl, hs110, hst⟩ := hp110
          have ht := ht.to hs110 (by decide) (by decide)
          have h13 := (hs110.arr (by decide)).trans h13
          refine lv_aload_n hx hb dX2_tell_113 rfl (lv_at hl 0 rfl) ?_
          refine t_get M hA hR 13 (by decide) q1052 rfl rfl dX2_tell_114 ?_
          refine lv_iconst (v := (4 : Int32)) hx hb dX2_tell_117 (by decide) ?_
          refine lv_iload_n hx hb dX2_tell_118 rfl (lv_at hl 1 rfl) ?_
          refine lv_imul hx hb dX2_tell_119 ?_
          refine lv_iconst (v := (2 : Int32)) hx hb dX2_tell_120 (by decide) ?_
          refine lv_iadd hx hb dX2_tell_121 ?_
          refine lv_aload_n hx hb dX2_tell_122 rfl (lv_at hl 0 rfl) ?_
          refine g_ki (g_V (As := []) M hR hS (c_X2_tenths l K hA ht hst) (lw_V q1238 q1240 qs41 q73 q1241) 0 md_X2_tenths rfl ⟨rfl, rfl⟩ ⟨Nat.le_of_ble_eq_true rfl, Nat.le_of_ble_eq_true rfl⟩ (hR.recv M (tG_0 hA) rfl) rfl hl.1 rfl (lv_room (Nat.le_of_ble_eq_true rfl)) dX2_tell_123 ⟨(by first | exact Nat.le_refl _ | exact Nat.zero_le _ | (dsimp only; omega)), (by first | exact Nat.le_refl _ | exact Nat.zero_le _ | (dsimp only; omega))⟩) hS (fun r123 G123 H locs hp123 hR hS => ?_)
          obtain ⟨V123, rfl, hs123, hst, hv123⟩ := hp123
          have ht := ht.to hs123 (by decide) (by decide)
          have h13 := (hs123.arr (by decide)).trans h13
          refine t_astQ M hA hR hS 13 (by decide) (by first | assumption | rfl) (4 * k9 + 2) (ix_4 k9 2) (by show _ < 64; omega) dX2_tell_126 (fun V126 H locs hq126 hw126 hR hS => ?_)
          have h13 := hw126
          have ht := ht.to hq126 (by decide) (by decide)
          have hst : pSt V126 cs _ := ⟨(hq126.fld (by decide)).trans hst.1, (hq126.fld (by decide)).trans hst.2.1, hst.2.2⟩
          refine lv_aload_n hx hb dX2_tell_127 rfl (lv_at hl 0 rfl) ?_
          refine t_getE M hA hR 12 (by decide) (hst.2.1) q1051 rfl dX2_tell_128 ?_
          refine lv_if_ne (tgt := 184) hx hb dX2_tell_131 (by decide) (fun c131 => ?_) (fun c131 => ?_)
          · obtain ⟨e3, e4⟩ := e2 _ _ _ (bI_0.mp c69) c78 rfl rfl rfl
            obtain ⟨f1, f2⟩ := e3 (Or.inl (bI_n0.mp c131))
            have hst := hst
            rw [← f1] at hst
            have hfin : ∀ t, pVa (pGo (pOr cs) ps) = some t → (V126.2.1 13 (4 * k9) = t.1 ∧ V126.2.1 13 (4 * k9 + 1) = t.2.1 ∧ V126.2.1 13 (4 * k9 + 2) = t.2.2.1 ∧ V126.2.1 13 (4 * k9 + 3) = t.2.2.2) := fun t h9 => by
              obtain ⟨w9, u9, f9, g1, g2, g3, rfl⟩ := f2 t h9
              rw [h13, hv8 w9 g1, hv91 u9 g2, hv123 f9 g3]
              simp [upd]
            have hlo : ∀ i, i < 4 * k9 → V126.2.1 13 i = V.2.1 13 i := fun i hi => by rw [h13]; simp only [upd]; repeat rw [if_neg (by omega)]
            exact g_vret M hr hlk hR hS (by omega) (by omega) dX2_tell_184 (⟨_, rfl, (tQ.trans (tQ.trans (tQ.trans (tQ.trans (tQ.trans (tQ.trans (tQ.trans (tQ.trans (tQ.trans (tQ.trans (tQ.trans tQ.rf hs8 (by decide)) hq11 (by decide)) hq23 (by decide)) hq35 (by decide)) hq46 (by decide)) hs62 (by decide)) hs91 (by decide)) hq94 (by decide)) hs110 (by decide)) hs123 (by decide)) hq126 (by decide)), hst, hfin, hlo⟩)
          · refine lv_aload_n hx hb dX2_tell_134 rfl (lv_at hl 0 rfl) ?_
            refine g_ki (g_V (As := []) M hR hS (c_X2_look l K hA ht hst) (lw_V q1226 q1228 qs38 q73 q1229) 0 md_X2_look rfl ⟨rfl, rfl⟩ ⟨Nat.le_of_ble_eq_true rfl, Nat.le_of_ble_eq_true rfl⟩ (hR.recv M (tG_0 hA) rfl) rfl hl.1 rfl (lv_room (Nat.le_of_ble_eq_true rfl)) dX2_tell_135 ⟨(by first | exact Nat.le_refl _ | exact Nat.zero_le _ | (dsimp only; omega)), (by first | exact Nat.le_refl _ | exact Nat.zero_le _ | (dsimp only; omega))⟩) hS (fun r135 G135 H locs hp135 hR hS => ?_)
            obtain ⟨rfl, rfl⟩ := hp135
            refine lv_bipush (v := (43 : Int32)) hx hb dX2_tell_138 (by decide) ?_
            refine lv_icmp_ne (tgt := 184) hx hb dX2_tell_140 (by decide) (fun c140 => ?_) (fun c140 => ?_)
            · obtain ⟨e3, e4⟩ := e2 _ _ _ (bI_0.mp c69) c78 rfl rfl rfl
              obtain ⟨f1, f2⟩ := e3 (Or.inr c140)
              have hst := hst
              rw [← f1] at hst
              have hfin : ∀ t, pVa (pGo (pOr cs) ps) = some t → (V126.2.1 13 (4 * k9) = t.1 ∧ V126.2.1 13 (4 * k9 + 1) = t.2.1 ∧ V126.2.1 13 (4 * k9 + 2) = t.2.2.1 ∧ V126.2.1 13 (4 * k9 + 3) = t.2.2.2) := fun t h9 => by
                obtain ⟨w9, u9, f9, g1, g2, g3, rfl⟩ := f2 t h9
                rw [h13, hv8 w9 g1, hv91 u9 g2, hv123 f9 g3]
                simp [upd]
              have hlo : ∀ i, i < 4 * k9 → V126.2.1 13 i = V.2.1 13 i := fun i hi => by rw [h13]; simp only [upd]; repeat rw [if_neg (by omega)]
              exact g_vret M hr hlk hR hS (by omega) (by omega) dX2_tell_184 (⟨_, rfl, (tQ.trans (tQ.trans (tQ.trans (tQ.trans (tQ.trans (tQ.trans (tQ.trans (tQ.trans (tQ.trans (tQ.trans (tQ.trans tQ.rf hs8 (by decide)) hq11 (by decide)) hq23 (by decide)) hq35 (by decide)) hq46 (by decide)) hs62 (by decide)) hs91 (by decide)) hq94 (by decide)) hs110 (by decide)) hs123 (by decide)) hq126 (by decide)), hst, hfin, hlo⟩)
            · obtain ⟨a9, ha9⟩ := pWr_f (bI_0.mp c131)
              rw [ha9] at hst c140
              have c140 : pC cs a9 = 43 := c140
              refine lv_aload_n hx hb dX2_tell_143 rfl (lv_at hl 0 rfl) ?_
              refine lv_dup hx hb dX2_tell_144 rfl ?_
              refine t_getE M hA hR 11 (by decide) (hst.1) q1050 rfl dX2_tell_145 ?_
              refine lv_iconst (v := (1 : Int32)) hx hb dX2_tell_148 (by decide) ?_
              refine lv_iadd hx hb dX2_tell_149 ?_
              refine g_topi (nI (a9 + 1)) (nI_1 a9) ?_
              refine t_putQ M hA hR hS 11 (by decide) q1050 ⟨rfl, rfl⟩ rfl rfl dX2_tell_150 (fun V150 H locs hq150 hw150 hz150 hR hS => ?_)
              have ht := ht.to hq150 (by decide) (by decide)
              have hst : pSt V150 cs (.inr (a9 + 1)) := ⟨hw150, (hq150.fld (by decide)).trans hst.2.1, pC_lt (by rw [c140]; decide)⟩
              have h13 := (hq150.arr (by decide)).trans h13
              refine lv_aload_n hx hb dX2_tell_153 rfl (lv_at hl 0 rfl) ?_
              refine t_get M hA hR 13 (by decide) q1052 rfl rfl dX2_tell_154 ?_
              refine lv_iconst (v := (4 : Int32)) hx hb dX2_tell_157 (by decide) ?_
              refine lv_iload_n hx hb dX2_tell_158 rfl (lv_at hl 1 rfl) ?_
              refine lv_imul hx hb dX2_tell_159 ?_
              refine lv_iconst (v := (3 : Int32)) hx hb dX2_tell_160 (by decide) ?_
              refine lv_iadd hx hb dX2_tell_161 ?_
              refine lv_aload_n hx hb dX2_tell_162 rfl (lv_at hl 0 rfl) ?_
              refine g_ki (g_V (As := []) M hR hS (c_X2_tenths l K hA ht hst) (lw_V q1238 q1240 qs41 q73 q1241) 0 md_X2_tenths rfl ⟨rfl, rfl⟩ ⟨Nat.le_of_ble_eq_true rfl, Nat.le_of_ble_eq_true rfl⟩ (hR.recv M (tG_0 hA) rfl) rfl hl.1 rfl (lv_room (Nat.le_of_ble_eq_true rfl)) dX2_tell_163 ⟨(by first | exact Nat.le_refl _ | exact Nat.zero_le _ | (dsimp only; omega)), (by first | exact Nat.le_refl _ | exact Nat.zero_le _ | (dsimp only; omega))⟩) hS (fun r163 G163 H locs hp163 hR hS => ?_)
              obtain ⟨V163, rfl, hs163, hst, hv163⟩ := hp163
              have ht := ht.to hs163 (by decide) (by decide)
              have h13 := (hs163.arr (by decide)).trans h13
              refine t_astQ M hA hR hS 13 (by decide) (by first | assumption | rfl) (4 * k9 + 3) (ix_4 k9 3) (by show _ < 64; omega) dX2_tell_166 (fun V166 H locs hq166 hw166 hR hS => ?_)
              have h13 := hw166
              refine lv_goto (tgt := 184) hx hb dX2_tell_167 (by decide) ?_
              have ht := ht.to hq166 (by decide) (by decide)
              have hst : pSt V166 cs _ := ⟨(hq166.fld (by decide)).trans hst.1, (hq166.fld (by decide)).trans hst.2.1, hst.2.2⟩
              obtain ⟨e3, e4⟩ := e2 _ _ _ (bI_0.mp c69) c78 rfl rfl rfl
              obtain ⟨f1, f2⟩ := e4 a9 ha9 c140
              have hst := hst
              rw [← f1] at hst
              have hfin : ∀ t, pVa (pGo (pOr cs) ps) = some t → (V166.2.1 13 (4 * k9) = t.1 ∧ V166.2.1 13 (4 * k9 + 1) = t.2.1 ∧ V166.2.1 13 (4 * k9 + 2) = t.2.2.1 ∧ V166.2.1 13 (4 * k9 + 3) = t.2.2.2) := fun t h9 => by
                obtain ⟨w9, u9, f9, x9, g1, g2, g3, g4, rfl⟩ := f2 t h9
                rw [h13, hv8 w9 g1, hv91 u9 g2, hv123 f9 g3, hv163 x9 g4]
                simp [upd]
              have hlo : ∀ i, i < 4 * k9 → V166.2.1 13 i = V.2.1 13 i := fun i hi => by rw [h13]; simp only [upd]; repeat rw [if_neg (by omega)]
              exact g_vret M hr hlk hR hS (by omega) (by omega) dX2_tell_184 (⟨_, rfl, (tQ.trans (tQ.trans (tQ.trans (tQ.trans (tQ.trans (tQ.trans (tQ.trans (tQ.trans (tQ.trans (tQ.trans (tQ.trans (tQ.trans (tQ.trans (tQ.trans tQ.rf hs8 (by decide)) hq11 (by decide)) hq23 (by decide)) hq35 (by decide)) hq46 (by decide)) hs62 (by decide)) hs91 (by decide)) hq94 (by decide)) hs110 (by decide)) hs123 (by decide)) hq126 (by decide)) hq150 (by decide)) hs163 (by decide)) hq166 (by decide)), hst, hfin, hlo⟩)
        · refine lv_iconst (v := (1 : Int32)) hx hb dX2_tell_105 (by decide) ?_
          refine lv_goto (tgt := 110) hx hb dX2_tell_106 (by decide) ?_
          refine g_topi (bI (decide (pC cs (pPl (pPo (pGo (pWd cs) (pMu (decide (pC cs (pPl (pPo (pGo (pWd cs) ps))) = 61)) (pPo (pGo (pWd cs) ps)))))) = 42))) (by rw [decide_eq_true c102]; rfl) ?_
          refine g_kv (g_V (As := [_]) M hR hS (c_X2_must l K hA ht hst (decide (pC cs (pPl (pPo (pGo (pWd cs) (pMu (decide (pC cs (pPl (pPo (pGo (pWd cs) ps))) = 61)) (pPo (pGo (pWd cs) ps)))))) = 42)) (fun a h1 h2 => pC_lt (by have h2 := of_decide_eq_true h2; rw [h1] at h2; have h2 : pC cs a = 42 := h2; rw [h2]; decide))) (lw_V q1230 q1232 qs39 q73 q1233) 1 md_X2_must rfl ⟨rfl, rfl⟩ ⟨Nat.le_of_ble_eq_true rfl, Nat.le_of_ble_eq_true rfl⟩ (hR.recv M (tG_0 hA) rfl) rfl hl.1 rfl (lv_room (Nat.le_of_ble_eq_true rfl)) dX2_tell_110 ⟨(by first | exact Nat.le_refl _ | exact Nat.zero_le _ | (dsimp only; omega)), (by first | exact Nat.le_refl _ | exact Nat.zero_le _ | (dsimp only; omega))⟩) hS (fun G110 H locs hp110 hR hS => ?_)
          obtain ⟨V110, rfl, hs110, hst⟩ := hp110
          have ht := ht.to hs110 (by decide) (by decide)
          have h13 := (hs110.arr (by decide)).trans h13
          refine lv_aload_n hx hb dX2_tell_113 rfl (lv_at hl 0 rfl) ?_
          refine t_get M hA hR 13 (by decide) q1052 rfl rfl dX2_tell_114 ?_
          refine lv_iconst (v := (4 : Int32)) hx hb dX2_tell_117 (by decide) ?_
          refine lv_iload_n hx hb dX2_tell_118 rfl (lv_at hl 1 rfl) ?_
          refine lv_imul hx hb dX2_tell_119 ?_
          refine lv_iconst (v := (2 : Int32)) hx hb dX2_tell_120 (by decide) ?_
          refine lv_iadd hx hb dX2_tell_121 ?_
          refine lv_aload_n hx hb dX2_tell_122 rfl (lv_at hl 0 rfl) ?_
          refine g_ki (g_V (As := []) M hR hS (c_X2_tenths l K hA ht hst) (lw_V q1238 q1240 qs41 q73 q1241) 0 md_X2_tenths rfl ⟨rfl, rfl⟩ ⟨Nat.le_of_ble_eq_true rfl, Nat.le_of_ble_eq_true rfl⟩ (hR.recv M (tG_0 hA) rfl) rfl hl.1 rfl (lv_room (Nat.le_of_ble_eq_true rfl)) dX2_tell_123 ⟨(by first | exact Nat.le_refl _ | exact Nat.zero_le _ | (dsimp only; omega)), (by first | exact Nat.le_refl _ | exact Nat.zero_le _ | (dsimp only; omega))⟩) hS (fun r123 G123 H locs hp123 hR hS => ?_)
          obtain ⟨V123, rfl, hs123, hst, hv123⟩ := hp123
          have ht := ht.to hs123 (by decide) (by decide)
          have h13 := (hs123.arr (by decide)).trans h13
          refine t_astQ M hA hR hS 13 (by decide) (by first | assumption | rfl) (4 * k9 + 2) (ix_4 k9 2) (by show _ < 64; omega) dX2_tell_126 (fun V126 H locs hq126 hw126 hR hS => ?_)
          have h13 := hw126
          have ht := ht.to hq126 (by decide) (by decide)
          have hst : pSt V126 cs _ := ⟨(hq126.fld (by decide)).trans hst.1, (hq126.fld (by decide)).trans hst.2.1, hst.2.2⟩
          refine lv_aload_n hx hb dX2_tell_127 rfl (lv_at hl 0 rfl) ?_
          refine t_getE M hA hR 12 (by decide) (hst.2.1) q1051 rfl dX2_tell_128 ?_
          refine lv_if_ne (tgt := 184) hx hb dX2_tell_131 (by decide) (fun c131 => ?_) (fun c131 => ?_)
          · obtain ⟨e3, e4⟩ := e2 _ _ _ (bI_0.mp c69) c78 rfl rfl rfl
            obtain ⟨f1, f2⟩ := e3 (Or.inl (bI_n0.mp c131))
            have hst := hst
            rw [← f1] at hst
            have hfin : ∀ t, pVa (pGo (pOr cs) ps) = some t → (V126.2.1 13 (4 * k9) = t.1 ∧ V126.2.1 13 (4 * k9 + 1) = t.2.1 ∧ V126.2.1 13 (4 * k9 + 2) = t.2.2.1 ∧ V126.2.1 13 (4 * k9 + 3) = t.2.2.2) := fun t h9 => by
              obtain ⟨w9, u9, f9, g1, g2, g3, rfl⟩ := f2 t h9
              rw [h13, hv8 w9 g1, hv91 u9 g2, hv123 f9 g3]
              simp [upd]
            have hlo : ∀ i, i < 4 * k9 → V126.2.1 13 i = V.2.1 13 i := fun i hi => by rw [h13]; simp only [upd]; repeat rw [if_neg (by omega)]
            exact g_vret M hr hlk hR hS (by omega) (by omega) dX2_tell_184 (⟨_, rfl, (tQ.trans (tQ.trans (tQ.trans (tQ.trans (tQ.trans (tQ.trans (tQ.trans (tQ.trans (tQ.trans (tQ.trans (tQ.trans tQ.rf hs8 (by decide)) hq11 (by decide)) hq23 (by decide)) hq35 (by decide)) hq46 (by decide)) hs62 (by decide)) hs91 (by decide)) hq94 (by decide)) hs110 (by decide)) hs123 (by decide)) hq126 (by decide)), hst, hfin, hlo⟩)
          · refine lv_aload_n hx hb dX2_tell_134 rfl (lv_at hl 0 rfl) ?_
            refine g_ki (g_V (As := []) M hR hS (c_X2_look l K hA ht hst) (lw_V q1226 q1228 qs38 q73 q1229) 0 md_X2_look rfl ⟨rfl, rfl⟩ ⟨Nat.le_of_ble_eq_true rfl, Nat.le_of_ble_eq_true rfl⟩ (hR.recv M (tG_0 hA) rfl) rfl hl.1 rfl (lv_room (Nat.le_of_ble_eq_true rfl)) dX2_tell_135 ⟨(by first | exact Nat.le_refl _ | exact Nat.zero_le _ | (dsimp only; omega)), (by first | exact Nat.le_refl _ | exact Nat.zero_le _ | (dsimp only; omega))⟩) hS (fun r135 G135 H locs hp135 hR hS => ?_)
            obtain ⟨rfl, rfl⟩ := hp135
            refine lv_bipush (v := (43 : Int32)) hx hb dX2_tell_138 (by decide) ?_
            refine lv_icmp_ne (tgt := 184) hx hb dX2_tell_140 (by decide) (fun c140 => ?_) (fun c140 => ?_)
            · obtain ⟨e3, e4⟩ := e2 _ _ _ (bI_0.mp c69) c78 rfl rfl rfl
              obtain ⟨f1, f2⟩ := e3 (Or.inr c140)
              have hst := hst
              rw [← f1] at hst
              have hfin : ∀ t, pVa (pGo (pOr cs) ps) = some t → (V126.2.1 13 (4 * k9) = t.1 ∧ V126.2.1 13 (4 * k9 + 1) = t.2.1 ∧ V126.2.1 13 (4 * k9 + 2) = t.2.2.1 ∧ V126.2.1 13 (4 * k9 + 3) = t.2.2.2) := fun t h9 => by
                obtain ⟨w9, u9, f9, g1, g2, g3, rfl⟩ := f2 t h9
                rw [h13, hv8 w9 g1, hv91 u9 g2, hv123 f9 g3]
                simp [upd]
              have hlo : ∀ i, i < 4 * k9 → V126.2.1 13 i = V.2.1 13 i := fun i hi => by rw [h13]; simp only [upd]; repeat rw [if_neg (by omega)]
              exact g_vret M hr hlk hR hS (by omega) (by omega) dX2_tell_184 (⟨_, rfl, (tQ.trans (tQ.trans (tQ.trans (tQ.trans (tQ.trans (tQ.trans (tQ.trans (tQ.trans (tQ.trans (tQ.trans (tQ.trans tQ.rf hs8 (by decide)) hq11 (by decide)) hq23 (by decide)) hq35 (by decide)) hq46 (by decide)) hs62 (by decide)) hs91 (by decide)) hq94 (by decide)) hs110 (by decide)) hs123 (by decide)) hq126 (by decide)), hst, hfin, hlo⟩)
            · obtain ⟨a9, ha9⟩ := pWr_f (bI_0.mp c131)
              rw [ha9] at hst c140
              have c140 : pC cs a9 = 43 := c140
              refine lv_aload_n hx hb dX2_tell_143 rfl (lv_at hl 0 rfl) ?_
              refine lv_dup hx hb dX2_tell_144 rfl ?_
              refine t_getE M hA hR 11 (by decide) (hst.1) q1050 rfl dX2_tell_145 ?_
              refine lv_iconst (v := (1 : Int32)) hx hb dX2_tell_148 (by decide) ?_
              refine lv_iadd hx hb dX2_tell_149 ?_
              refine g_topi (nI (a9 + 1)) (nI_1 a9) ?_
              refine t_putQ M hA hR hS 11 (by decide) q1050 ⟨rfl, rfl⟩ rfl rfl dX2_tell_150 (fun V150 H locs hq150 hw150 hz150 hR hS => ?_)
              have ht := ht.to hq150 (by decide) (by decide)
              have hst : pSt V150 cs (.inr (a9 + 1)) := ⟨hw150, (hq150.fld (by decide)).trans hst.2.1, pC_lt (by rw [c140]; decide)⟩
              have h13 := (hq150.arr (by decide)).trans h13
              refine lv_aload_n hx hb dX2_tell_153 rfl (lv_at hl 0 rfl) ?_
              refine t_get M hA hR 13 (by decide) q1052 rfl rfl dX2_tell_154 ?_
              refine lv_iconst (v := (4 : Int32)) hx hb dX2_tell_157 (by decide) ?_
              refine lv_iload_n hx hb dX2_tell_158 rfl (lv_at hl 1 rfl) ?_
              refine lv_imul hx hb dX2_tell_159 ?_
              refine lv_iconst (v := (3 : Int32)) hx hb dX2_tell_160 (by decide) ?_
              refine lv_iadd hx hb dX2_tell_161 ?_
              refine lv_aload_n hx hb dX2_tell_162 rfl (lv_at hl 0 rfl) ?_
              refine g_ki (g_V (As := []) M hR hS (c_X2_tenths l K hA ht hst) (lw_V q1238 q1240 qs41 q73 q1241) 0 md_X2_tenths rfl ⟨rfl, rfl⟩ ⟨Nat.le_of_ble_eq_true rfl, Nat.le_of_ble_eq_true rfl⟩ (hR.recv M (tG_0 hA) rfl) rfl hl.1 rfl (lv_room (Nat.le_of_ble_eq_true rfl)) dX2_tell_163 ⟨(by first | exact Nat.le_refl _ | exact Nat.zero_le _ | (dsimp only; omega)), (by first | exact Nat.le_refl _ | exact Nat.zero_le _ | (dsimp only; omega))⟩) hS (fun r163 G163 H locs hp163 hR hS => ?_)
              obtain ⟨V163, rfl, hs163, hst, hv163⟩ := hp163
              have ht := ht.to hs163 (by decide) (by decide)
              have h13 := (hs163.arr (by decide)).trans h13
              refine t_astQ M hA hR hS 13 (by decide) (by first | assumption | rfl) (4 * k9 + 3) (ix_4 k9 3) (by show _ < 64; omega) dX2_tell_166 (fun V166 H locs hq166 hw166 hR hS => ?_)
              have h13 := hw166
              refine lv_goto (tgt := 184) hx hb dX2_tell_167 (by decide) ?_
              have ht := ht.to hq166 (by decide) (by decide)
              have hst : pSt V166 cs _ := ⟨(hq166.fld (by decide)).trans hst.1, (hq166.fld (by decide)).trans hst.2.1, hst.2.2⟩
              obtain ⟨e3, e4⟩ := e2 _ _ _ (bI_0.mp c69) c78 rfl rfl rfl
              obtain ⟨f1, f2⟩ := e4 a9 ha9 c140
              have hst := hst
              rw [← f1] at hst
              have hfin : ∀ t, pVa (pGo (pOr cs) ps) = some t → (V166.2.1 13 (4 * k9) = t.1 ∧ V166.2.1 13 (4 * k9 + 1) = t.2.1 ∧ V166.2.1 13 (4 * k9 + 2) = t.2.2.1 ∧ V166.2.1 13 (4 * k9 + 3) = t.2.2.2) := fun t h9 => by
                obtain ⟨w9, u9, f9, x9, g1, g2, g3, g4, rfl⟩ := f2 t h9
                rw [h13, hv8 w9 g1, hv91 u9 g2, hv123 f9 g3, hv163 x9 g4]
                simp [upd]
              have hlo : ∀ i, i < 4 * k9 → V166.2.1 13 i = V.2.1 13 i := fun i hi => by rw [h13]; simp only [upd]; repeat rw [if_neg (by omega)]
              exact g_vret M hr hlk hR hS (by omega) (by omega) dX2_tell_184 (⟨_, rfl, (tQ.trans (tQ.trans (tQ.trans (tQ.trans (tQ.trans (tQ.trans (tQ.trans (tQ.trans (tQ.trans (tQ.trans (tQ.trans (tQ.trans (tQ.trans (tQ.trans tQ.rf hs8 (by decide)) hq11 (by decide)) hq23 (by decide)) hq35 (by decide)) hq46 (by decide)) hs62 (by decide)) hs91 (by decide)) hq94 (by decide)) hs110 (by decide)) hs123 (by decide)) hq126 (by decide)) hq150 (by decide)) hs163 (by decide)) hq166 (by decide)), hst, hfin, hlo⟩)

theorem md_X2_readOrders : gMd yX2_readOrders 2 := by
  unfold gMd
  decide +kernel
set_option maxHeartbeats 4000000 in
set_option maxRecDepth 100000 in
theorem c_X2_readOrders (l : Launch) (K : gK) {G0 : gG} {A : Nat → Nat} {V : tV} {F : Nat → Int32} (hA : tInj A) (hF : V.2.1 1 = F) (p9 str : Int32) (a : Nat) (ha : V.1 6 = nI a) (ha4 : a ≤ 4) {P N : Nat} (ok : fOk F P N) {cs : List Nat} (ht : pTx V cs) : Met l yX2_readOrders (ws_ yX2_readOrders cX2_readOrders 7 (Option.some Jvm.ClassFile.FieldType.int)) (gRm 4 0 0 130) (gPre K [.ref (A 0), .int p9, .int str] (tG K G0 A V)) (gQi K (fun r G1 => r = (zRd F N cs p9 str).1 ∧ ∃ V1, G1 = tG K G0 A V1 ∧ tDo V V1 F a (zRd F N cs p9 str).2)) 0 0 (gA K) := by
  refine g_met (by decide) (Nat.le_of_ble_eq_true rfl) ?_
  intro p e s m below meth c M hr hlk hnm hR ls hl
  have M : gM K p s m _ c cX2_readOrders 7 RX2 := M
  have hx := M.hx
  have hb := M.hb
  have hS : va_S (gA K) s.heap s.heap [] := va_S.rf
  have hl : lv_has ls 7 [(0, .ref (A 0)), (1, .int p9), (2, .int str)] := hl
  have hF0 := hF
  have hN := ok.hN
  have hN2 := ok.hN2
  refine lv_aload_n hx hb dX2_readOrders_0 rfl (lv_at hl 0 rfl) ?_
  refine g_kv (g_V (As := []) M hR hS (c_X2_aside l K hA (by first | assumption | rfl)) (lw_V q1094 q1096 qs22 q73 q1097) 0 md_X2_aside rfl ⟨rfl, rfl⟩ ⟨Nat.le_of_ble_eq_true rfl, Nat.le_of_ble_eq_true rfl⟩ (hR.recv M (tG_0 hA) rfl) rfl hl.1 rfl (lv_room (Nat.le_of_ble_eq_true rfl)) dX2_readOrders_1 ⟨(by first | exact Nat.le_refl _ | exact Nat.zero_le _ | (dsimp only; omega)), (by first | exact Nat.le_refl _ | exact Nat.zero_le _ | (dsimp only; omega))⟩) hS (fun G1 H locs hp1 hR hS => ?_)
  obtain ⟨V1, rfl, hs1, hput⟩ := hp1
  have hF := hs1.row hF (by decide)
  refine lv_aload_n hx hb dX2_readOrders_4 rfl (lv_at hl 0 rfl) ?_
  refine lv_iload_n hx hb dX2_readOrders_5 rfl (lv_at hl 1 rfl) ?_
  refine g_ki (g_V (As := [_]) M hR hS (c_X2_isPerson l K hA (by first | assumption | rfl) _) (lw_V q1109 q1111 qs24 q73 q1112) 1 md_X2_isPerson rfl ⟨rfl, rfl⟩ ⟨Nat.le_of_ble_eq_true rfl, Nat.le_of_ble_eq_true rfl⟩ (hR.recv M (tG_0 hA) rfl) rfl hl.1 rfl (lv_room (Nat.le_of_ble_eq_true rfl)) dX2_readOrders_6 ⟨(by first | exact Nat.le_refl _ | exact Nat.zero_le _ | (dsimp only; omega)), (by first | exact Nat.le_refl _ | exact Nat.zero_le _ | (dsimp only; omega))⟩) hS (fun r6 G6 H locs hp6 hR hS => ?_)
  obtain ⟨rfl, rfl⟩ := hp6
  refine lv_if_ne (tgt := 14) hx hb dX2_readOrders_9 (by decide) (fun c9 => ?_) (fun c9 => ?_)
  · have ho1 := bI_n0.mp c9
    have hP6 := ok.hP6
    obtain ⟨o9, ho9, rfl⟩ := fIn_nI (by rw [← ok.hP]; exact ho1) (by omega)
    have hzo : zN (nI o9) = o9 := zN_k ho9 (by omega)
    have ho2 : ¬ fIn (nI o9) 0 (F 0 - 1) = false := by rw [ho1]; decide
    refine lv_iload_n hx hb dX2_readOrders_14 rfl (lv_at hl 2 rfl) ?_
    refine g_ki (g_S (As := [_]) M hR hS (c_X2_isForce l K _) (lw_S q1144 q1145 q73 q1146) 1 md_X2_isForce ⟨rfl, rfl⟩ ⟨Nat.le_of_ble_eq_true rfl, Nat.le_of_ble_eq_true rfl⟩ rfl hl.1 rfl (lv_room (Nat.le_of_ble_eq_true rfl)) dX2_readOrders_15 ⟨(by first | exact Nat.le_refl _ | exact Nat.zero_le _ | (dsimp only; omega)), (by first | exact Nat.le_refl _ | exact Nat.zero_le _ | (dsimp only; omega))⟩) hS (fun r15 G15 H locs hp15 hR hS => ?_)
    obtain ⟨rfl, e0⟩ := hp15
    rw [e0] at hR
    refine lv_if_ne (tgt := 24) hx hb dX2_readOrders_18 (by decide) (fun c18 => ?_) (fun c18 => ?_)
    · have hf2 : ¬ fFrom str 1036831949 1092616192 = false := by rw [bI_n0.mp c18]; decide
      refine lv_aload_n hx hb dX2_readOrders_24 rfl (lv_at hl 0 rfl) ?_
      refine lv_iconst (v := (0 : Int32)) hx hb dX2_readOrders_25 (by decide) ?_
      refine t_putQ M hA hR hS 11 (by decide) q1050 ⟨rfl, rfl⟩ rfl rfl dX2_readOrders_26 (fun V26 H locs hq26 hw26 hz26 hR hS => ?_)
      have hF := hq26.row hF (by decide)
      refine lv_aload_n hx hb dX2_readOrders_29 rfl (lv_at hl 0 rfl) ?_
      refine lv_iconst (v := (0 : Int32)) hx hb dX2_readOrders_30 (by decide) ?_
      refine t_putQ M hA hR hS 12 (by decide) q1051 ⟨rfl, rfl⟩ (by first | exact bI_nar _ | decide) (by first | exact bI_fit _ | decide) dX2_readOrders_31 (fun V31 H locs hq31 hw31 hz31 hR hS => ?_)
      have hF := hq31.row hF (by decide)
      have ht := ht.to (tQ.trans (tQ.trans (tQ.trans tQ.rf hs1 (by decide)) hq26 (by decide)) hq31 (by decide) : tQ tX V V31) (by decide) (by decide)
      have hst : pSt V31 cs (.inr 0) := ⟨(hq31.fld (by decide)).trans hw26, hw31, Nat.zero_le _⟩
      refine lv_iconst (v := (0 : Int32)) hx hb dX2_readOrders_34 (by decide) ?_
      refine lv_istore_n (lv' := [(3, _), (0, _), (1, _), (2, _)]) hx hb dX2_readOrders_35 rfl hl (by decide) rfl (fun ls hl => ?_)
      refine lv_iconst (v := (1 : Int32)) hx hb dX2_readOrders_36 (by decide) ?_
      refine lv_istore (lv' := [(4, _), (3, _), (0, _), (1, _), (2, _)]) hx hb dX2_readOrders_37 hl (by decide) rfl (fun ls hl => ?_)
      refine g_loop (pc := 39) (fun (k : Nat) (ls : Array Slot) (G : gG) (cells slots : Nat) => ∃ j more qs ps1 V1, lv_has ls 7 [(4, .int (bI more)), (3, .int (nI j)), (2, .int str), (1, .int (nI o9)), (0, .ref (A 0))] ∧ j ≤ 9 ∧ k = (if more = true then 11 - j else 0) ∧ tQ tX V V1 ∧ V1.2.1 2 = F ∧ V1.2.1 1 = F ∧ pTx V1 cs ∧ pSt V1 cs ps1 ∧ (more = true → pWr ps1 = false ∧ 7 * j ≤ pPl ps1 ∧ qs.length = j ∧ pOs cs 10 0 = pPre qs (pOs cs (10 - j) (pPl ps1)) ∧ pTd V1 qs) ∧ (more = false → pOs cs 10 0 = pLast qs ps1 ∧ (pWr ps1 = false → qs.length = j ∧ pTd V1 qs)) ∧ G = tG K G0 A V1 ∧ cells = 0 ∧ slots = 0) ?_ (11) ⟨0, true, [], .inr 0, V31, lv_sub hl [0, 1, 4, 3, 2] rfl, Nat.zero_le _, rfl, (tQ.trans (tQ.trans (tQ.trans tQ.rf hs1 (by decide)) hq26 (by decide)) hq31 (by decide)), (hq31.arr (by decide)).trans ((hq26.arr (by decide)).trans hput), hF, ht, hst, (fun _ => ⟨rfl, Nat.zero_le _, rfl, pPre_nil.symm, pTd.nil⟩), (fun z => by cases z), rfl, rfl, rfl⟩ hR hS
      intro k ls G H locs cells slots hI hR hS ih39
      obtain ⟨j, more, qs, ps1, V1, hl, hj9, hk9, hs, hput, hF, ht, hst, hm1, hm0, rfl, rfl, rfl⟩ := hI
      have h60 := ht.2.1
      have hple := hst.2.2
      refine lv_iload hx hb dX2_readOrders_39 (lv_at hl 0 rfl) ?_
      refine lv_if_eq (tgt := 117) hx hb dX2_readOrders_41 (by decide) (fun c41 => ?_) (fun c41 => ?_)
      · have hmt : more = false := bI_0.mp c41
        subst hmt
        obtain ⟨hos, hq0⟩ := hm0 rfl
        refine lv_aload_n hx hb dX2_readOrders_117 rfl (lv_at hl 4 rfl) ?_
        refine t_getE M hA hR 12 (by decide) (hst.2.1) q1051 rfl dX2_readOrders_118 ?_
        refine lv_if_eq (tgt := 132) hx hb dX2_readOrders_121 (by decide) (fun c121 => ?_) (fun c121 => ?_)
        · obtain ⟨hql, htd⟩ := hq0 (bI_0.mp c121)
          obtain ⟨a1, rfl⟩ := pWr_f (bI_0.mp c121)
          have hz0 : zRd F N cs (nI o9) str = (match fNs (nI o9) str qs F N with | .inl r => (r, none) | .inr F9 => (nI qs.length, some F9)) := (if_neg ho2).trans ((if_neg hf2).trans (by rw [hos]; rfl))
          have hj61 := hj9
          refine lv_iconst (v := (0 : Int32)) hx hb dX2_readOrders_132 (by decide) ?_
          refine lv_istore (lv' := [(5, _), (4, _), (3, _), (2, _), (1, _), (0, _)]) hx hb dX2_readOrders_133 hl (by decide) rfl (fun ls hl => ?_)
          refine g_loop (pc := 135) (fun (k : Nat) (ls : Array Slot) (G : gG) (cells slots : Nat) => ∃ i Fi V1, lv_has ls 7 [(5, .int (nI i)), (3, .int (nI j)), (2, .int str), (1, .int (nI o9)), (0, .ref (A 0))] ∧ i ≤ j ∧ k = j - i ∧ tQ tX V V1 ∧ V1.2.1 2 = F ∧ V1.2.1 1 = Fi ∧ fOk Fi P (N + i) ∧ fNs (nI o9) str qs F N = fNs (nI o9) str (qs.drop i) Fi (N + i) ∧ pTd V1 qs ∧ G = tG K G0 A V1 ∧ cells = 0 ∧ slots = 0) ?_ (j) ⟨0, F, _, lv_sub hl [0, 2, 3, 4, 5] rfl, Nat.zero_le _, rfl, (tQ.trans tQ.rf hs (by decide)), hput, hF, ok, rfl, htd, rfl, rfl, rfl⟩ hR hS
          intro k ls G H locs cells slots hI hR hS ih135
          obtain ⟨i, Fi, V1, hl, hij, rfl, hs, hput, hF, oki, he3, htd, rfl, rfl, rfl⟩ := hI
          refine lv_iload hx hb dX2_readOrders_135 (lv_at hl 0 rfl) ?_
          refine lv_iload_n hx hb dX2_readOrders_137 rfl (lv_at hl 1 rfl) ?_
          refine lv_icmp_ge (tgt := 215) hx hb dX2_readOrders_138 (by decide) (fun c138 => ?_) (fun c138 => ?_)
          · have hji : i = j := eq_of_ge c138 hij (by omega)
            subst hji
            have hz : zRd F N cs (nI o9) str = (nI i, some Fi) := hz0.trans (by rw [he3, List.drop_of_length_le (by omega), hql]; rfl)
            have hput9 := hput
            have ha9 : V1.1 6 = nI a := (hs.fld (by decide)).trans ha
            refine lv_aload_n hx hb dX2_readOrders_215 rfl (lv_at hl 4 rfl) ?_
            refine lv_iload_n hx hb dX2_readOrders_216 rfl (lv_at hl 1 rfl) ?_
            refine g_ki (g_V (As := [_]) M hR hS (c_X2_acted l K hA hput9 a ha9 ha4 _) (lw_V q1101 q1103 qs23 q73 q1104) 1 md_X2_acted rfl ⟨rfl, rfl⟩ ⟨Nat.le_of_ble_eq_true rfl, Nat.le_of_ble_eq_true rfl⟩ (hR.recv M (tG_0 hA) rfl) rfl hl.1 rfl (lv_room (Nat.le_of_ble_eq_true rfl)) dX2_readOrders_217 ⟨(by first | exact Nat.le_refl _ | exact Nat.zero_le _ | (dsimp only; omega)), (by first | exact Nat.le_refl _ | exact Nat.zero_le _ | (dsimp only; omega))⟩) hS (fun r217 G217 H locs hp217 hR hS => ?_)
            obtain ⟨rfl, V217, rfl, hs217, hact⟩ := hp217
            exact g_iret M hr hlk hR hS (by omega) (by omega) dX2_readOrders_220 (⟨(congrArg Prod.fst hz).symm, _, rfl, by rw [hz]; exact ⟨(tQ.trans (tQ.trans tQ.rf hs (by decide)) hs217 (by decide)), (hs217.arr (by decide)).trans hF, hact.from ((hs.arr (by decide)).trans (rfl))⟩⟩)
          · have hij2 : i < j := lt_of_not c138 (by omega)
            obtain ⟨t9, hq9⟩ : ∃ t9, qs[i]? = some t9 := ⟨qs[i]'(by omega), List.getElem?_eq_getElem (by omega)⟩
            obtain ⟨d1, d2, d3, d4⟩ := htd i t9 hq9
            have hdr : qs.drop i = t9 :: qs.drop (i + 1) := List.drop_eq_getElem?_toList_append.trans (by rw [hq9]; rfl)
            refine lv_aload_n hx hb dX2_readOrders_141 rfl (lv_at hl 4 rfl) ?_
            refine lv_iload_n hx hb dX2_readOrders_142 rfl (lv_at hl 3 rfl) ?_
            refine lv_aload_n hx hb dX2_readOrders_143 rfl (lv_at hl 4 rfl) ?_
            refine t_get M hA hR 13 (by decide) q1052 rfl rfl dX2_readOrders_144 ?_
            refine lv_iconst (v := (4 : Int32)) hx hb dX2_readOrders_147 (by decide) ?_
            refine lv_iload hx hb dX2_readOrders_148 (lv_at hl 0 rfl) ?_
            refine lv_imul hx hb dX2_readOrders_150 ?_
            refine t_aldE M hA (d1) hR (by decide) (ix_40 i) (by show 4 * i < 64; omega) dX2_readOrders_151 ?_
            refine lv_aload_n hx hb dX2_readOrders_152 rfl (lv_at hl 4 rfl) ?_
            refine t_get M hA hR 13 (by decide) q1052 rfl rfl dX2_readOrders_153 ?_
            refine lv_iconst (v := (4 : Int32)) hx hb dX2_readOrders_156 (by decide) ?_
            refine lv_iload hx hb dX2_readOrders_157 (lv_at hl 0 rfl) ?_
            refine lv_imul hx hb dX2_readOrders_159 ?_
            refine lv_iconst (v := (1 : Int32)) hx hb dX2_readOrders_160 (by decide) ?_
            refine lv_iadd hx hb dX2_readOrders_161 ?_
            refine t_aldE M hA (d2) hR (by decide) (ix_4 i 1) (by show 4 * i + 1 < 64; omega) dX2_readOrders_162 ?_
            refine lv_aload_n hx hb dX2_readOrders_163 rfl (lv_at hl 4 rfl) ?_
            refine t_get M hA hR 13 (by decide) q1052 rfl rfl dX2_readOrders_164 ?_
            refine lv_iconst (v := (4 : Int32)) hx hb dX2_readOrders_167 (by decide) ?_
            refine lv_iload hx hb dX2_readOrders_168 (lv_at hl 0 rfl) ?_
            refine lv_imul hx hb dX2_readOrders_170 ?_
            refine lv_iconst (v := (2 : Int32)) hx hb dX2_readOrders_171 (by decide) ?_
            refine lv_iadd hx hb dX2_readOrders_172 ?_
            refine t_aldE M hA (d3) hR (by decide) (ix_4 i 2) (by show 4 * i + 2 < 64; omega) dX2_readOrders_173 ?_
            refine g_ki (g_S (As := [_]) M hR hS (c_X2_bitsOf l K _) (lw_S q1242 q1243 q73 q1244) 1 md_X2_bitsOf ⟨rfl, rfl⟩ ⟨Nat.le_of_ble_eq_true rfl, Nat.le_of_ble_eq_true rfl⟩ rfl hl.1 rfl (lv_room (Nat.le_of_ble_eq_true rfl)) dX2_readOrders_174 ⟨(by first | exact Nat.le_refl _ | exact Nat.zero_le _ | (dsimp only; omega)), (by first | exact Nat.le_refl _ | exact Nat.zero_le _ | (dsimp only; omega))⟩) hS (fun r174 G174 H locs hp174 hR hS => ?_)
            obtain ⟨rfl, e0⟩ := hp174
            rw [e0] at hR
            refine lv_aload_n hx hb dX2_readOrders_177 rfl (lv_at hl 4 rfl) ?_
            refine t_get M hA hR 13 (by decide) q1052 rfl rfl dX2_readOrders_178 ?_
            refine lv_iconst (v := (4 : Int32)) hx hb dX2_readOrders_181 (by decide) ?_
            refine lv_iload hx hb dX2_readOrders_182 (lv_at hl 0 rfl) ?_
            refine lv_imul hx hb dX2_readOrders_184 ?_
            refine lv_iconst (v := (3 : Int32)) hx hb dX2_readOrders_185 (by decide) ?_
            refine lv_iadd hx hb dX2_readOrders_186 ?_
            refine t_aldE M hA (d4) hR (by decide) (ix_4 i 3) (by show 4 * i + 3 < 64; omega) dX2_readOrders_187 ?_
            refine g_ki (g_S (As := [_]) M hR hS (c_X2_bitsOf l K _) (lw_S q1242 q1243 q73 q1244) 1 md_X2_bitsOf ⟨rfl, rfl⟩ ⟨Nat.le_of_ble_eq_true rfl, Nat.le_of_ble_eq_true rfl⟩ rfl hl.1 rfl (lv_room (Nat.le_of_ble_eq_true rfl)) dX2_readOrders_188 ⟨(by first | exact Nat.le_refl _ | exact Nat.zero_le _ | (dsimp only; omega)), (by first | exact Nat.le_refl _ | exact Nat.zero_le _ | (dsimp only; omega))⟩) hS (fun r188 G188 H locs hp188 hR hS => ?_)
            obtain ⟨rfl, e0⟩ := hp188
            rw [e0] at hR
            refine lv_iload_n hx hb dX2_readOrders_191 rfl (lv_at hl 2 rfl) ?_
            refine g_ki (g_V (As := [_, _, _, _, _, _]) M hR hS (c_X2_nails l K hA (by first | assumption | rfl) _ _ _ _ _ _ oki) (lw_V q1132 q1134 qs25 q73 q1135) 6 md_X2_nails rfl ⟨rfl, rfl⟩ ⟨Nat.le_of_ble_eq_true rfl, Nat.le_of_ble_eq_true rfl⟩ (hR.recv M (tG_0 hA) rfl) rfl hl.1 rfl (lv_room (Nat.le_of_ble_eq_true rfl)) dX2_readOrders_192 ⟨(by first | exact Nat.le_refl _ | exact Nat.zero_le _ | (dsimp only; omega)), (by first | exact Nat.le_refl _ | exact Nat.zero_le _ | (dsimp only; omega))⟩) hS (fun r192 G192 H locs hp192 hR hS => ?_)
            obtain ⟨rfl, V192, rfl, hs192, hF⟩ := hp192
            refine lv_istore (lv' := [(6, _), (5, _), (3, _), (2, _), (1, _), (0, _)]) hx hb dX2_readOrders_195 hl (by decide) rfl (fun ls hl => ?_)
            refine lv_iload hx hb dX2_readOrders_197 (lv_at hl 0 rfl) ?_
            refine lv_if_ge (tgt := 209) hx hb dX2_readOrders_199 (by decide) (fun c199 => ?_) (fun c199 => ?_)
            · have hneg := Int32.not_lt.mpr c199
              obtain ⟨okn, hn40, -⟩ := oki.nail hneg
              have hF := hF.trans (if_neg hneg)
              have he3 : fNs (nI o9) str qs F N = fNs (nI o9) str (qs.drop (i + 1)) (fNl Fi (N + i) (nI o9) t9.1 t9.2.1 (pBo t9.2.2.1) (pBo t9.2.2.2) str) (N + (i + 1)) := he3.trans (by rw [hdr]; exact if_neg hneg)
              refine g_inc (lv' := [(5, _), (6, _), (3, _), (2, _), (1, _), (0, _)]) M dX2_readOrders_209 hl (k := 1) rfl (by decide) rfl (fun ls hl => ?_)
              refine lv_goto (tgt := 135) hx hb dX2_readOrders_212 (by decide) ?_
              exact ih135 (j - (i + 1)) _ _ _ _ _ _ (by omega) ⟨i + 1, _, _, lv_sub hl [0, 2, 3, 4, 5] rfl, by omega, rfl, (tQ.trans (tQ.trans tQ.rf hs (by decide)) hs192 (by decide)), (hs192.arr (by decide)).trans hput, hF, okn, he3, htd.to hs192 (by decide), rfl, rfl, rfl⟩ hR hS
            · have hneg := Int32.not_le.mp c199
              have hneg : fNr Fi (N + i) (nI o9) t9.1 t9.2.1 (pBo t9.2.2.1) (pBo t9.2.2.2) str < 0 := hneg
              have he3 : fNs (nI o9) str qs F N = .inl (fNr Fi (N + i) (nI o9) t9.1 t9.2.1 (pBo t9.2.2.1) (pBo t9.2.2.2) str) := he3.trans (by rw [hdr]; exact if_pos hneg)
              have hz : zRd F N cs (nI o9) str = (fNr Fi (N + i) (nI o9) t9.1 t9.2.1 (pBo t9.2.2.1) (pBo t9.2.2.2) str, none) := hz0.trans (by rw [he3])
              refine lv_aload_n hx hb dX2_readOrders_202 rfl (lv_at hl 5 rfl) ?_
              refine g_kv (g_V (As := []) M hR hS (c_X2_putBack l K hA (show V192.2.1 2 = F from (hs192.arr (by decide)).trans hput)) (lw_V q1245 q1247 qs42 q73 q1248) 0 md_X2_putBack rfl ⟨rfl, rfl⟩ ⟨Nat.le_of_ble_eq_true rfl, Nat.le_of_ble_eq_true rfl⟩ (hR.recv M (tG_0 hA) rfl) rfl hl.1 rfl (lv_room (Nat.le_of_ble_eq_true rfl)) dX2_readOrders_203 ⟨(by first | exact Nat.le_refl _ | exact Nat.zero_le _ | (dsimp only; omega)), (by first | exact Nat.le_refl _ | exact Nat.zero_le _ | (dsimp only; omega))⟩) hS (fun G203 H locs hp203 hR hS => ?_)
              obtain ⟨V203, rfl, hs203, hF⟩ := hp203
              refine lv_iload hx hb dX2_readOrders_206 (lv_at hl 0 rfl) ?_
              exact g_iret M hr hlk hR hS (by omega) (by omega) dX2_readOrders_208 (⟨(congrArg Prod.fst hz).symm, _, rfl, by rw [hz]; exact ⟨(tQ.trans (tQ.trans (tQ.trans tQ.rf hs (by decide)) hs192 (by decide)) hs203 (by decide)), hF⟩⟩)
        · obtain ⟨p9, rfl⟩ := pWr_t (bI_n0.mp c121)
          have hz : zRd F N cs (nI o9) str = (-100 - nI p9, none) := (if_neg ho2).trans ((if_neg hf2).trans (by rw [hos]; rfl))
          refine lv_bipush (v := ((-100) : Int32)) hx hb dX2_readOrders_124 (by decide) ?_
          refine lv_aload_n hx hb dX2_readOrders_126 rfl (lv_at hl 4 rfl) ?_
          refine t_getE M hA hR 11 (by decide) (hst.1) q1050 rfl dX2_readOrders_127 ?_
          refine lv_isub hx hb dX2_readOrders_130 ?_
          exact g_iret M hr hlk hR hS (by omega) (by omega) dX2_readOrders_131 (⟨(congrArg Prod.fst hz).symm, _, rfl, by rw [hz]; exact ⟨(tQ.trans tQ.rf hs (by decide)), hF⟩⟩)
      · have hmt : more = true := bI_n0.mp c41
        subst hmt
        obtain ⟨hwr, h7, hql, hos, htd⟩ := hm1 rfl
        obtain ⟨a, rfl⟩ := pWr_f hwr
        have h7 : 7 * j ≤ a := h7
        have hple : a ≤ cs.length := hple
        obtain ⟨n9, hn9⟩ : ∃ n9, 10 - j = n9 + 1 := ⟨9 - j, by omega⟩
        have hn8 : n9 = 10 - (j + 1) := by omega
        have hk9 : k = 11 - j := hk9
        refine lv_aload_n hx hb dX2_readOrders_44 rfl (lv_at hl 4 rfl) ?_
        refine lv_iload_n hx hb dX2_readOrders_45 rfl (lv_at hl 1 rfl) ?_
        refine g_kv (g_V (As := [_]) M hR hS (c_X2_tell l K hA ht hst j (by omega)) (lw_V q1218 q1220 qs36 q73 q1221) 1 md_X2_tell rfl ⟨rfl, rfl⟩ ⟨Nat.le_of_ble_eq_true rfl, Nat.le_of_ble_eq_true rfl⟩ (hR.recv M (tG_0 hA) rfl) rfl hl.1 rfl (lv_room (Nat.le_of_ble_eq_true rfl)) dX2_readOrders_46 ⟨(by first | exact Nat.le_refl _ | exact Nat.zero_le _ | (dsimp only; omega)), (by first | exact Nat.le_refl _ | exact Nat.zero_le _ | (dsimp only; omega))⟩) hS (fun G46 H locs hp46 hR hS => ?_)
        obtain ⟨V46, rfl, hs46, hst, hfin9, hlo9⟩ := hp46
        have hF := hs46.row hF (by decide)
        have ht := ht.to hs46 (by decide) (by decide)
        refine g_inc (lv' := [(3, _), (4, _), (2, _), (1, _), (0, _)]) M dX2_readOrders_49 hl (k := 1) rfl (by decide) rfl (fun ls hl => ?_)
        refine lv_aload_n hx hb dX2_readOrders_52 rfl (lv_at hl 4 rfl) ?_
        refine t_getE M hA hR 12 (by decide) (hst.2.1) q1051 rfl dX2_readOrders_53 ?_
        refine lv_if_ne (tgt := 74) hx hb dX2_readOrders_56 (by decide) (fun c56 => ?_) (fun c56 => ?_)
        · obtain ⟨p9, hp9⟩ := pWr_t (bI_n0.mp c56)
          rw [hp9] at hst
          have he2 : pOs cs 10 0 = pPre qs (.inl p9) := hos.trans (congrArg (pPre qs) (by rw [hn9]; exact os_w (pGo_l hp9)))
          refine lv_iconst (v := (0 : Int32)) hx hb dX2_readOrders_74 (by decide) ?_
          refine lv_istore (lv' := [(4, _), (3, _), (2, _), (1, _), (0, _)]) hx hb dX2_readOrders_75 hl (by decide) rfl (fun ls hl => ?_)
          refine lv_iload hx hb dX2_readOrders_77 (lv_at hl 0 rfl) ?_
          refine lv_if_eq (tgt := 39) hx hb dX2_readOrders_79 (by decide) (fun c79 => ?_) (fun c79 => absurd c79 (not_not_intro rfl))
          exact ih39 (0) _ _ _ _ _ _ (by omega) ⟨j + 1, false, qs, .inl p9, _, lv_sub hl [0, 1, 2, 3, 4] rfl, by omega, rfl, (tQ.trans (tQ.trans tQ.rf hs (by decide)) hs46 (by decide)), (hs46.arr (by decide)).trans hput, hF, ht, hst, (fun z => by cases z), (fun _ => ⟨by rw [he2]; rfl, fun z => by cases z⟩), rfl, rfl, rfl⟩ hR hS
        · obtain ⟨a1, ha1⟩ := pWr_f (bI_0.mp c56)
          rw [ha1] at hst
          obtain ⟨t9, hor⟩ := pGo_r ha1
          obtain ⟨hle1, hle2⟩ := pOr_a hor
          refine lv_aload_n hx hb dX2_readOrders_59 rfl (lv_at hl 4 rfl) ?_
          refine t_getE M hA hR 11 (by decide) (hst.1) q1050 rfl dX2_readOrders_60 ?_
          refine lv_aload_n hx hb dX2_readOrders_63 rfl (lv_at hl 4 rfl) ?_
          refine t_getE M hA hR 8 (by decide) (ht.1) q1047 rfl dX2_readOrders_64 ?_
          refine lv_icmp_ge (tgt := 74) hx hb dX2_readOrders_67 (by decide) (fun c67 => ?_) (fun c67 => ?_)
          · have hlen : cs.length ≤ a1 := (nI_leI (by omega) (by omega)).mp c67
            have he2 : pOs cs 10 0 = pPre qs (.inr ([t9], a1)) := hos.trans (congrArg (pPre qs) (by rw [hn9]; exact os_e hor hlen))
            have hd2 := htd.s hql hlo9 (hfin9 t9 (by show pVa (pOr cs a) = some t9; rw [hor]; rfl))
            refine lv_iconst (v := (0 : Int32)) hx hb dX2_readOrders_74 (by decide) ?_
            refine lv_istore (lv' := [(4, _), (3, _), (2, _), (1, _), (0, _)]) hx hb dX2_readOrders_75 hl (by decide) rfl (fun ls hl => ?_)
            refine lv_iload hx hb dX2_readOrders_77 (lv_at hl 0 rfl) ?_
            refine lv_if_eq (tgt := 39) hx hb dX2_readOrders_79 (by decide) (fun c79 => ?_) (fun c79 => absurd c79 (not_not_intro rfl))
            exact ih39 (0) _ _ _ _ _ _ (by omega) ⟨j + 1, false, qs ++ [t9], .inr a1, _, lv_sub hl [0, 1, 2, 3, 4] rfl, by omega, rfl, (tQ.trans (tQ.trans tQ.rf hs (by decide)) hs46 (by decide)), (hs46.arr (by decide)).trans hput, hF, ht, hst, (fun z => by cases z), (fun _ => ⟨by rw [he2]; rfl, fun z => ⟨by simp [hql], hd2⟩⟩), rfl, rfl, rfl⟩ hR hS
          · have hlen : a1 < cs.length := lt_of_not c67 (by omega)
            have hd2 := htd.s hql hlo9 (hfin9 t9 (by show pVa (pOr cs a) = some t9; rw [hor]; rfl))
            refine lv_iconst (v := (1 : Int32)) hx hb dX2_readOrders_70 (by decide) ?_
            refine lv_goto (tgt := 75) hx hb dX2_readOrders_71 (by decide) ?_
            refine lv_istore (lv' := [(4, _), (3, _), (2, _), (1, _), (0, _)]) hx hb dX2_readOrders_75 hl (by decide) rfl (fun ls hl => ?_)
            refine lv_iload hx hb dX2_readOrders_77 (lv_at hl 0 rfl) ?_
            refine lv_if_eq (tgt := 39) hx hb dX2_readOrders_79 (by decide) (fun c79 => absurd c79 (by decide)) (fun c79 => ?_)
            refine lv_aload_n hx hb dX2_readOrders_82 rfl (lv_at hl 4 rfl) ?_
            refine lv_aload_n hx hb dX2_readOrders_83 rfl (lv_at hl 4 rfl) ?_
            refine g_ki (g_V (As := []) M hR hS (c_X2_look l K hA ht hst) (lw_V q1226 q1228 qs38 q73 q1229) 0 md_X2_look rfl ⟨rfl, rfl⟩ ⟨Nat.le_of_ble_eq_true rfl, Nat.le_of_ble_eq_true rfl⟩ (hR.recv M (tG_0 hA) rfl) rfl hl.1 rfl (lv_room (Nat.le_of_ble_eq_true rfl)) dX2_readOrders_84 ⟨(by first | exact Nat.le_refl _ | exact Nat.zero_le _ | (dsimp only; omega)), (by first | exact Nat.le_refl _ | exact Nat.zero_le _ | (dsimp only; omega))⟩) hS (fun r84 G84 H locs hp84 hR hS => ?_)
            obtain ⟨rfl, rfl⟩ := hp84
            refine lv_bipush (v := (59 : Int32)) hx hb dX2_readOrders_87 (by decide) ?_
            refine lv_icmp_ne (tgt := 96) hx hb dX2_readOrders_89 (by decide) (fun c89 => ?_) (fun c89 => ?_)
            · refine lv_iconst (v := (0 : Int32)) hx hb dX2_readOrders_96 (by decide) ?_
              refine g_topi (bI (decide (pC cs (pPl (.inr a1 : Nat ⊕ Nat)) = 59))) (by rw [decide_eq_false c89]; rfl) ?_
              refine g_kv (g_V (As := [_]) M hR hS (c_X2_must l K hA ht hst (decide (pC cs (pPl (.inr a1 : Nat ⊕ Nat)) = 59)) (fun a h1 h2 => by cases h1; exact pC_lt (by have h2 : pC cs a1 = 59 := of_decide_eq_true h2; rw [h2]; decide))) (lw_V q1230 q1232 qs39 q73 q1233) 1 md_X2_must rfl ⟨rfl, rfl⟩ ⟨Nat.le_of_ble_eq_true rfl, Nat.le_of_ble_eq_true rfl⟩ (hR.recv M (tG_0 hA) rfl) rfl hl.1 rfl (lv_room (Nat.le_of_ble_eq_true rfl)) dX2_readOrders_97 ⟨(by first | exact Nat.le_refl _ | exact Nat.zero_le _ | (dsimp only; omega)), (by first | exact Nat.le_refl _ | exact Nat.zero_le _ | (dsimp only; omega))⟩) hS (fun G97 H locs hp97 hR hS => ?_)
              obtain ⟨V97, rfl, hs97, hst⟩ := hp97
              have ht := ht.to hs97 (by decide) (by decide)
              have ht := ht
              refine lv_aload_n hx hb dX2_readOrders_100 rfl (lv_at hl 4 rfl) ?_
              refine t_getE M hA hR 12 (by decide) (hst.2.1) q1051 rfl dX2_readOrders_101 ?_
              refine lv_if_ne (tgt := 111) hx hb dX2_readOrders_104 (by decide) (fun c104 => ?_) (fun c104 => ?_)
              · have h59 : pC cs a1 ≠ 59 := fun z => by rw [show pMu (decide (pC cs (pPl (.inr a1)) = 59)) (.inr a1) = .inr (a1 + 1) from if_pos (decide_eq_true z)] at c104; exact c104 rfl
                rw [show pMu (decide (pC cs (pPl (.inr a1)) = 59)) (.inr a1) = .inl a1 from if_neg (by show ¬ decide (pC cs a1 = 59) = true; rw [decide_eq_false h59]; decide)] at hst
                have he2 : pOs cs 10 0 = pPre qs (.inl a1) := hos.trans (congrArg (pPre qs) (by rw [hn9]; exact os_f hor hlen h59))
                refine lv_iconst (v := (0 : Int32)) hx hb dX2_readOrders_111 (by decide) ?_
                refine lv_istore (lv' := [(4, _), (3, _), (2, _), (1, _), (0, _)]) hx hb dX2_readOrders_112 hl (by decide) rfl (fun ls hl => ?_)
                refine lv_goto (tgt := 39) hx hb dX2_readOrders_114 (by decide) ?_
                exact ih39 (0) _ _ _ _ _ _ (by omega) ⟨j + 1, false, qs, .inl a1, _, lv_sub hl [0, 1, 2, 3, 4] rfl, by omega, rfl, (tQ.trans (tQ.trans (tQ.trans tQ.rf hs (by decide)) hs46 (by decide)) hs97 (by decide)), (hs97.arr (by decide)).trans ((hs46.arr (by decide)).trans hput), (hs97.arr (by decide)).trans hF, ht, hst, (fun z => by cases z), (fun _ => ⟨by rw [he2]; rfl, fun z => by cases z⟩), rfl, rfl, rfl⟩ hR hS
              · have h59 : pC cs a1 = 59 := by
                  by_cases z : pC cs a1 = 59
                  · exact z
                  · rw [show pMu (decide (pC cs (pPl (.inr a1)) = 59)) (.inr a1) = .inl a1 from if_neg (by show ¬ decide (pC cs a1 = 59) = true; rw [decide_eq_false z]; decide)] at c104
                    exact absurd c104 (by show ¬ (1 : Int32) = 0; decide)
                rw [show pMu (decide (pC cs (pPl (.inr a1)) = 59)) (.inr a1) = .inr (a1 + 1) from if_pos (decide_eq_true h59)] at hst
                have he2 : pOs cs 10 0 = pPre (qs ++ [t9]) (pOs cs (10 - (j + 1)) (a1 + 1)) := hos.trans (by rw [hn9, ← hn8]; exact os_n hor hlen h59)
                refine lv_iconst (v := (1 : Int32)) hx hb dX2_readOrders_107 (by decide) ?_
                refine lv_goto (tgt := 112) hx hb dX2_readOrders_108 (by decide) ?_
                refine lv_istore (lv' := [(4, _), (3, _), (2, _), (1, _), (0, _)]) hx hb dX2_readOrders_112 hl (by decide) rfl (fun ls hl => ?_)
                refine lv_goto (tgt := 39) hx hb dX2_readOrders_114 (by decide) ?_
                exact ih39 (11 - (j + 1)) _ _ _ _ _ _ (by omega) ⟨j + 1, true, qs ++ [t9], .inr (a1 + 1), _, lv_sub hl [0, 1, 2, 3, 4] rfl, by omega, rfl, (tQ.trans (tQ.trans (tQ.trans tQ.rf hs (by decide)) hs46 (by decide)) hs97 (by decide)), (hs97.arr (by decide)).trans ((hs46.arr (by decide)).trans hput), (hs97.arr (by decide)).trans hF, ht, hst, (fun _ => ⟨rfl, by show 7 * (j + 1) ≤ a1 + 1; omega, by simp [hql], he2, hd2.to hs97 (by decide)⟩), (fun z => by cases z), rfl, rfl, rfl⟩ hR hS
            · refine lv_iconst (v := (1 : Int32)) hx hb dX2_readOrders_92 (by decide) ?_
              refine lv_goto (tgt := 97) hx hb dX2_readOrders_93 (by decide) ?_
              refine g_topi (bI (decide (pC cs (pPl (.inr a1 : Nat ⊕ Nat)) = 59))) (by rw [decide_eq_true c89]; rfl) ?_
              refine g_kv (g_V (As := [_]) M hR hS (c_X2_must l K hA ht hst (decide (pC cs (pPl (.inr a1 : Nat ⊕ Nat)) = 59)) (fun a h1 h2 => by cases h1; exact pC_lt (by have h2 : pC cs a1 = 59 := of_decide_eq_true h2; rw [h2]; decide))) (lw_V q1230 q1232 qs39 q73 q1233) 1 md_X2_must rfl ⟨rfl, rfl⟩ ⟨Nat.le_of_ble_eq_true rfl, Nat.le_of_ble_eq_true rfl⟩ (hR.recv M (tG_0 hA) rfl) rfl hl.1 rfl (lv_room (Nat.le_of_ble_eq_true rfl)) dX2_readOrders_97 ⟨(by first | exact Nat.le_refl _ | exact Nat.zero_le _ | (dsimp only; omega)), (by first | exact Nat.le_refl _ | exact Nat.zero_le _ | (dsimp only; omega))⟩) hS (fun G97 H locs hp97 hR hS => ?_)
              obtain ⟨V97, rfl, hs97, hst⟩ := hp97
              have ht := ht.to hs97 (by decide) (by decide)
              have ht := ht
              refine lv_aload_n hx hb dX2_readOrders_100 rfl (lv_at hl 4 rfl) ?_
              refine t_getE M hA hR 12 (by decide) (hst.2.1) q1051 rfl dX2_readOrders_101 ?_
              refine lv_if_ne (tgt := 111) hx hb dX2_readOrders_104 (by decide) (fun c104 => ?_) (fun c104 => ?_)
              · have h59 : pC cs a1 ≠ 59 := fun z => by rw [show pMu (decide (pC cs (pPl (.inr a1)) = 59)) (.inr a1) = .inr (a1 + 1) from if_pos (decide_eq_true z)] at c104; exact c104 rfl
                rw [show pMu (decide (pC cs (pPl (.inr a1)) = 59)) (.inr a1) = .inl a1 from if_neg (by show ¬ decide (pC cs a1 = 59) = true; rw [decide_eq_false h59]; decide)] at hst
                have he2 : pOs cs 10 0 = pPre qs (.inl a1) := hos.trans (congrArg (pPre qs) (by rw [hn9]; exact os_f hor hlen h59))
                refine lv_iconst (v := (0 : Int32)) hx hb dX2_readOrders_111 (by decide) ?_
                refine lv_istore (lv' := [(4, _), (3, _), (2, _), (1, _), (0, _)]) hx hb dX2_readOrders_112 hl (by decide) rfl (fun ls hl => ?_)
                refine lv_goto (tgt := 39) hx hb dX2_readOrders_114 (by decide) ?_
                exact ih39 (0) _ _ _ _ _ _ (by omega) ⟨j + 1, false, qs, .inl a1, _, lv_sub hl [0, 1, 2, 3, 4] rfl, by omega, rfl, (tQ.trans (tQ.trans (tQ.trans tQ.rf hs (by decide)) hs46 (by decide)) hs97 (by decide)), (hs97.arr (by decide)).trans ((hs46.arr (by decide)).trans hput), (hs97.arr (by decide)).trans hF, ht, hst, (fun z => by cases z), (fun _ => ⟨by rw [he2]; rfl, fun z => by cases z⟩), rfl, rfl, rfl⟩ hR hS
              · have h59 : pC cs a1 = 59 := by
                  by_cases z : pC cs a1 = 59
                  · exact z
                  · rw [show pMu (decide (pC cs (pPl (.inr a1)) = 59)) (.inr a1) = .inl a1 from if_neg (by show ¬ decide (pC cs a1 = 59) = true; rw [decide_eq_false z]; decide)] at c104
                    exact absurd c104 (by show ¬ (1 : Int32) = 0; decide)
                rw [show pMu (decide (pC cs (pPl (.inr a1)) = 59)) (.inr a1) = .inr (a1 + 1) from if_pos (decide_eq_true h59)] at hst
                have he2 : pOs cs 10 0 = pPre (qs ++ [t9]) (pOs cs (10 - (j + 1)) (a1 + 1)) := hos.trans (by rw [hn9, ← hn8]; exact os_n hor hlen h59)
                refine lv_iconst (v := (1 : Int32)) hx hb dX2_readOrders_107 (by decide) ?_
                refine lv_goto (tgt := 112) hx hb dX2_readOrders_108 (by decide) ?_
                refine lv_istore (lv' := [(4, _), (3, _), (2, _), (1, _), (0, _)]) hx hb dX2_readOrders_112 hl (by decide) rfl (fun ls hl => ?_)
                refine lv_goto (tgt := 39) hx hb dX2_readOrders_114 (by decide) ?_
                exact ih39 (11 - (j + 1)) _ _ _ _ _ _ (by omega) ⟨j + 1, true, qs ++ [t9], .inr (a1 + 1), _, lv_sub hl [0, 1, 2, 3, 4] rfl, by omega, rfl, (tQ.trans (tQ.trans (tQ.trans tQ.rf hs (by decide)) hs46 (by decide)) hs97 (by decide)), (hs97.arr (by decide)).trans ((hs46.arr (by decide)).trans hput), (hs97.arr (by decide)).trans hF, ht, hst, (fun _ => ⟨rfl, by show 7 * (j + 1) ≤ a1 + 1; omega, by simp [hql], he2, hd2.to hs97 (by decide)⟩), (fun z => by cases z), rfl, rfl, rfl⟩ hR hS
    · have hz : zRd F N cs (nI o9) str = (-2, none) := (if_neg ho2).trans (if_pos (bI_0.mp c18))
      refine lv_bipush (v := ((-2) : Int32)) hx hb dX2_readOrders_21 (by decide) ?_
      exact g_iret M hr hlk hR hS (by omega) (by omega) dX2_readOrders_23 (⟨(congrArg Prod.fst hz).symm, _, rfl, by rw [hz]; exact ⟨(tQ.trans tQ.rf hs1 (by decide)), hF⟩⟩)
  · have hz : zRd F N cs p9 str = (-1, none) := if_pos (bI_0.mp c9)
    refine lv_iconst (v := ((-1) : Int32)) hx hb dX2_readOrders_12 (by decide) ?_
    exact g_iret M hr hlk hR hS (by omega) (by omega) dX2_readOrders_13 (⟨(congrArg Prod.fst hz).symm, _, rfl, by rw [hz]; exact ⟨(tQ.trans tQ.rf hs1 (by decide)), hF⟩⟩)
