/-! THE REFERENCE: writers (rows printed by tools/p23.py) -/
theorem md_X2_aside : gMd yX2_aside 0 := by
  unfold gMd
  decide +kernel
set_option maxHeartbeats 4000000 in
set_option maxRecDepth 100000 in
theorem c_X2_aside (l : Launch) (K : gK) {G0 : gG} {A : Nat → Nat} {V : tV} {F : Nat → Int32} (hA : tInj A) (hF : V.2.1 1 = F)  : Met l yX2_aside (ws_ yX2_aside cX2_aside 2 (Option.none : Option Jvm.ClassFile.FieldType)) (gRm 0 0 0 0) (gPre K [.ref (A 0)] (tG K G0 A V)) (gQv K (fun G1 => ∃ V1, G1 = tG K G0 A V1 ∧ tQ [0, 2] V V1 ∧ V1.2.1 2 = F)) 0 0 (gA K) := by
  refine g_met (by decide) (Nat.le_of_ble_eq_true rfl) ?_
  intro p e s m below meth c M hr hlk hnm hR ls hl
  have M : gM K p s m _ c cX2_aside 2 RX2 := M
  have hx := M.hx
  have hb := M.hb
  have hS : va_S (gA K) s.heap s.heap [] := va_S.rf
  have hl : lv_has ls 2 [(0, .ref (A 0))] := hl
  have hF0 := hF
  refine lv_aload_n hx hb dX2_aside_0 rfl (lv_at hl 0 rfl) ?_
  refine lv_iconst (v := (0 : Int32)) hx hb dX2_aside_1 (by decide) ?_
  refine t_putQ M hA hR hS 0 (by decide) q1039 ⟨rfl, rfl⟩ rfl rfl dX2_aside_2 (fun V2 H locs hq2 hw2 hz2 hR hS => ?_)
  have hF := hq2.row hF (by decide)
  refine lv_iconst (v := (0 : Int32)) hx hb dX2_aside_5 (by decide) ?_
  refine lv_istore_n (lv' := [(1, _), (0, _)]) hx hb dX2_aside_6 rfl hl (by decide) rfl (fun ls hl => ?_)
  refine g_loop (pc := 7) (fun (k : Nat) (ls : Array Slot) (G : gG) (cells slots : Nat) => ∃ j V1, lv_has ls 2 [(1, .int (nI j)), (0, .ref (A 0))] ∧ j ≤ 292 ∧ k = 292 - j ∧ tQ [0, 2] V V1 ∧ (∀ i, i < j → V1.2.1 2 i = F i) ∧ G = tG K G0 A V1 ∧ cells = 0 ∧ slots = 0) ?_ (292) ⟨0, _, lv_sub hl [0, 1] rfl, by omega, rfl, (tQ.trans tQ.rf hq2 (by decide)), fun i hi => absurd hi (Nat.not_lt_zero _), rfl, rfl, rfl⟩ hR hS
  intro k ls G H locs cells slots hI hR hS ih7
  obtain ⟨j, V1, hl, hj, rfl, hs, hc, rfl, rfl, rfl⟩ := hI
  have hF := hs.row hF0 (by decide)
  refine lv_iload_n hx hb dX2_aside_7 rfl (lv_at hl 0 rfl) ?_
  refine lv_sipush (v := (292 : Int32)) hx hb dX2_aside_8 (by decide) ?_
  refine lv_icmp_ge (tgt := 32) hx hb dX2_aside_11 (by decide) (fun c11 => ?_) (fun c11 => ?_)
  · have h9 : j = 292 := eq_of_ge (n := 292) c11 hj (by decide)
    subst h9
    obtain ⟨V2, hR, hs2, hv2⟩ := tG_ext hA hR 2 (by decide) F hc
    exact g_vret M hr hlk hR hS (by omega) (by omega) dX2_aside_32 (⟨V2, rfl, hs.trans hs2 (by decide), hv2⟩)
  · have hj2 : j < 292 := lt_of_not (n := 292) c11 (by omega)
    refine lv_aload_n hx hb dX2_aside_14 rfl (lv_at hl 1 rfl) ?_
    refine t_get M hA hR 2 (by decide) q1041 rfl rfl dX2_aside_15 ?_
    refine lv_iload_n hx hb dX2_aside_18 rfl (lv_at hl 0 rfl) ?_
    refine lv_aload_n hx hb dX2_aside_19 rfl (lv_at hl 1 rfl) ?_
    refine t_get M hA hR 1 (by decide) q1040 rfl rfl dX2_aside_20 ?_
    refine lv_iload_n hx hb dX2_aside_23 rfl (lv_at hl 0 rfl) ?_
    refine t_aldF M hA (by first | assumption | rfl) hR (by decide) j rfl hj2 dX2_aside_24 ?_
    refine t_astQ M hA hR hS 2 (by decide) rfl j rfl hj2 dX2_aside_25 (fun V25 H locs hq25 hw25 hR hS => ?_)
    have hF := hq25.row hF (by decide)
    refine g_inc (lv' := [(1, _), (0, _)]) M dX2_aside_26 hl (k := 0) rfl (by decide) rfl (fun ls hl => ?_)
    refine lv_goto (tgt := 7) hx hb dX2_aside_29 (by decide) ?_
    exact ih7 (292 - (j + 1)) _ _ _ _ _ _ (by omega) ⟨j + 1, _, lv_sub hl [0, 1] rfl, by omega, rfl, (tQ.trans (tQ.trans tQ.rf hs (by decide)) hq25 (by decide)), fun i hi => (congrFun hw25 i).trans (wy_s (q := F) hc rfl i hi), rfl, rfl, rfl⟩ hR hS

theorem md_X2_putBack : gMd yX2_putBack 0 := by
  unfold gMd
  decide +kernel
set_option maxHeartbeats 4000000 in
set_option maxRecDepth 100000 in
theorem c_X2_putBack (l : Launch) (K : gK) {G0 : gG} {A : Nat → Nat} {V : tV} {F : Nat → Int32} (hA : tInj A) (hput : V.2.1 2 = F)  : Met l yX2_putBack (ws_ yX2_putBack cX2_putBack 2 (Option.none : Option Jvm.ClassFile.FieldType)) (gRm 0 0 0 0) (gPre K [.ref (A 0)] (tG K G0 A V)) (gQv K (fun G1 => ∃ V1, G1 = tG K G0 A V1 ∧ tQ [1] V V1 ∧ V1.2.1 1 = F)) 0 0 (gA K) := by
  refine g_met (by decide) (Nat.le_of_ble_eq_true rfl) ?_
  intro p e s m below meth c M hr hlk hnm hR ls hl
  have M : gM K p s m _ c cX2_putBack 2 RX2 := M
  have hx := M.hx
  have hb := M.hb
  have hS : va_S (gA K) s.heap s.heap [] := va_S.rf
  have hl : lv_has ls 2 [(0, .ref (A 0))] := hl
  refine lv_iconst (v := (0 : Int32)) hx hb dX2_putBack_0 (by decide) ?_
  refine lv_istore_n (lv' := [(1, _), (0, _)]) hx hb dX2_putBack_1 rfl hl (by decide) rfl (fun ls hl => ?_)
  refine g_loop (pc := 2) (fun (k : Nat) (ls : Array Slot) (G : gG) (cells slots : Nat) => ∃ j V1, lv_has ls 2 [(1, .int (nI j)), (0, .ref (A 0))] ∧ j ≤ 292 ∧ k = 292 - j ∧ tQ [1] V V1 ∧ (∀ i, i < j → V1.2.1 1 i = F i) ∧ G = tG K G0 A V1 ∧ cells = 0 ∧ slots = 0) ?_ (292) ⟨0, _, lv_sub hl [0, 1] rfl, by omega, rfl, tQ.rf, fun i hi => absurd hi (Nat.not_lt_zero _), rfl, rfl, rfl⟩ hR hS
  intro k ls G H locs cells slots hI hR hS ih2
  obtain ⟨j, V1, hl, hj, rfl, hs, hc, rfl, rfl, rfl⟩ := hI
  refine lv_iload_n hx hb dX2_putBack_2 rfl (lv_at hl 0 rfl) ?_
  refine lv_sipush (v := (292 : Int32)) hx hb dX2_putBack_3 (by decide) ?_
  refine lv_icmp_ge (tgt := 27) hx hb dX2_putBack_6 (by decide) (fun c6 => ?_) (fun c6 => ?_)
  · have h9 : j = 292 := eq_of_ge (n := 292) c6 hj (by decide)
    subst h9
    obtain ⟨V2, hR, hs2, hv2⟩ := tG_ext hA hR 1 (by decide) F hc
    exact g_vret M hr hlk hR hS (by omega) (by omega) dX2_putBack_27 (⟨V2, rfl, hs.trans hs2 (by decide), hv2⟩)
  · have hj2 : j < 292 := lt_of_not (n := 292) c6 (by omega)
    refine lv_aload_n hx hb dX2_putBack_9 rfl (lv_at hl 1 rfl) ?_
    refine t_get M hA hR 1 (by decide) q1040 rfl rfl dX2_putBack_10 ?_
    refine lv_iload_n hx hb dX2_putBack_13 rfl (lv_at hl 0 rfl) ?_
    refine lv_aload_n hx hb dX2_putBack_14 rfl (lv_at hl 1 rfl) ?_
    refine t_get M hA hR 2 (by decide) q1041 rfl rfl dX2_putBack_15 ?_
    refine lv_iload_n hx hb dX2_putBack_18 rfl (lv_at hl 0 rfl) ?_
    refine t_aldE M hA ((congrFun (hs.arr (by decide)) j).trans (congrFun hput j)) hR (by decide) rfl hj2 dX2_putBack_19 ?_
    refine t_astQ M hA hR hS 1 (by decide) (by first | assumption | rfl) j rfl hj2 dX2_putBack_20 (fun V20 H locs hq20 hw20 hR hS => ?_)
    have hF := hw20
    refine g_inc (lv' := [(1, _), (0, _)]) M dX2_putBack_21 hl (k := 0) rfl (by decide) rfl (fun ls hl => ?_)
    refine lv_goto (tgt := 2) hx hb dX2_putBack_24 (by decide) ?_
    exact ih2 (292 - (j + 1)) _ _ _ _ _ _ (by omega) ⟨j + 1, _, lv_sub hl [0, 1] rfl, by omega, rfl, (tQ.trans (tQ.trans tQ.rf hs (by decide)) hq20 (by decide)), fun i hi => (congrFun hw20 i).trans (wy_s (q := F) hc rfl i hi), rfl, rfl, rfl⟩ hR hS

theorem md_X2_acted : gMd yX2_acted 1 := by
  unfold gMd
  decide +kernel
set_option maxHeartbeats 4000000 in
set_option maxRecDepth 100000 in
theorem c_X2_acted (l : Launch) (K : gK) {G0 : gG} {A : Nat → Nat} {V : tV} {F : Nat → Int32} (hA : tInj A) (hput : V.2.1 2 = F) (a : Nat) (ha : V.1 6 = nI a) (ha4 : a ≤ 4) (x : Int32)  : Met l yX2_acted (ws_ yX2_acted cX2_acted 3 (Option.some Jvm.ClassFile.FieldType.int)) (gRm 0 0 0 0) (gPre K [.ref (A 0), .int x] (tG K G0 A V)) (gQi K (fun r G1 => r = x ∧ ∃ V1, G1 = tG K G0 A V1 ∧ tQ [5, 6] V V1 ∧ tAct V V1 F a)) 0 0 (gA K) := by
  refine g_met (by decide) (Nat.le_of_ble_eq_true rfl) ?_
  intro p e s m below meth c M hr hlk hnm hR ls hl
  have M : gM K p s m _ c cX2_acted 3 RX2 := M
  have hx := M.hx
  have hb := M.hb
  have hS : va_S (gA K) s.heap s.heap [] := va_S.rf
  have hl : lv_has ls 3 [(0, .ref (A 0)), (1, .int x)] := hl
  refine lv_aload_n hx hb dX2_acted_0 rfl (lv_at hl 0 rfl) ?_
  refine t_getE M hA hR 6 (by decide) (ha) q1045 rfl dX2_acted_1 ?_
  refine lv_iconst (v := (4 : Int32)) hx hb dX2_acted_4 (by decide) ?_
  refine lv_icmp_ne (tgt := 49) hx hb dX2_acted_5 (by decide) (fun c5 => ?_) (fun c5 => ?_)
  · have hV6 : V.1 6 = nI (tB a) := by unfold tB; rw [if_neg (fun z => c5 (by rw [z]; rfl))]; exact ha
    have hold : ∀ i, i < 292 * tB a → V.2.1 5 i = tOld V a i := fun i hi => (if_neg (fun z => c5 (by rw [z]; rfl))).symm
    refine lv_iconst (v := (0 : Int32)) hx hb dX2_acted_49 (by decide) ?_
    refine lv_istore_n (lv' := [(2, _), (0, _), (1, _)]) hx hb dX2_acted_50 rfl hl (by decide) rfl (fun ls hl => ?_)
    refine g_loop (pc := 51) (fun (k : Nat) (ls : Array Slot) (G : gG) (cells slots : Nat) => ∃ j V1, lv_has ls 3 [(2, .int (nI j)), (1, .int x), (0, .ref (A 0))] ∧ j ≤ 292 ∧ k = 292 - j ∧ tQ [5, 6] V V1 ∧ V1.1 6 = nI (tB a) ∧ (∀ i, i < 292 * tB a → V1.2.1 5 i = tOld V a i) ∧ (∀ i, i < j → V1.2.1 5 (292 * tB a + i) = F i) ∧ G = tG K G0 A V1 ∧ cells = 0 ∧ slots = 0) ?_ (292) ⟨0, _, lv_sub hl [0, 2, 1] rfl, by omega, rfl, tQ.rf, hV6, hold, fun i hi => absurd hi (Nat.not_lt_zero _), rfl, rfl, rfl⟩ hR hS
    intro k ls G H locs cells slots hI hR hS ih51
    obtain ⟨j, V1, hl, hj, rfl, hs, h6, hold, hc, rfl, rfl, rfl⟩ := hI
    refine lv_iload_n hx hb dX2_acted_51 rfl (lv_at hl 0 rfl) ?_
    refine lv_sipush (v := (292 : Int32)) hx hb dX2_acted_52 (by decide) ?_
    refine lv_icmp_ge (tgt := 85) hx hb dX2_acted_55 (by decide) (fun c55 => ?_) (fun c55 => ?_)
    · have h9 : j = 292 := eq_of_ge (n := 292) c55 hj (by decide)
      refine lv_aload_n hx hb dX2_acted_85 rfl (lv_at hl 2 rfl) ?_
      refine lv_dup hx hb dX2_acted_86 rfl ?_
      refine t_getE M hA hR 6 (by decide) (h6) q1045 rfl dX2_acted_87 ?_
      refine lv_iconst (v := (1 : Int32)) hx hb dX2_acted_90 (by decide) ?_
      refine lv_iadd hx hb dX2_acted_91 ?_
      refine t_putQ M hA hR hS 6 (by decide) q1045 ⟨rfl, rfl⟩ rfl rfl dX2_acted_92 (fun V92 H locs hq92 hw92 hz92 hR hS => ?_)
      refine lv_iload_n hx hb dX2_acted_95 rfl (lv_at hl 1 rfl) ?_
      exact g_iret M hr hlk hR hS (by omega) (by omega) dX2_acted_96 (⟨rfl, _, rfl, (tQ.trans (tQ.trans tQ.rf hs (by decide)) hq92 (by decide)), hw92.trans (nI_1 _), fun i hi => (congrFun (hq92.arr (by decide)) i).trans (hold i hi), fun i hi => (congrFun (hq92.arr (by decide)) _).trans (hc i (by omega))⟩)
    · have hj3 : j < 292 := lt_of_not (n := 292) c55 (by omega)
      have hb3 : tB a ≤ 3 := by unfold tB; split <;> omega
      refine lv_aload_n hx hb dX2_acted_58 rfl (lv_at hl 2 rfl) ?_
      refine t_get M hA hR 5 (by decide) q1044 rfl rfl dX2_acted_59 ?_
      refine lv_sipush (v := (292 : Int32)) hx hb dX2_acted_62 (by decide) ?_
      refine lv_aload_n hx hb dX2_acted_65 rfl (lv_at hl 2 rfl) ?_
      refine t_getE M hA hR 6 (by decide) (h6) q1045 rfl dX2_acted_66 ?_
      refine lv_imul hx hb dX2_acted_69 ?_
      refine lv_iload_n hx hb dX2_acted_70 rfl (lv_at hl 0 rfl) ?_
      refine lv_iadd hx hb dX2_acted_71 ?_
      refine lv_aload_n hx hb dX2_acted_72 rfl (lv_at hl 2 rfl) ?_
      refine t_get M hA hR 2 (by decide) q1041 rfl rfl dX2_acted_73 ?_
      refine lv_iload_n hx hb dX2_acted_76 rfl (lv_at hl 0 rfl) ?_
      refine t_aldE M hA ((congrFun (hs.arr (by decide)) j).trans (congrFun hput j)) hR (by decide) rfl hj3 dX2_acted_77 ?_
      refine t_astQ M hA hR hS 5 (by decide) rfl (292 * tB a + j) (ix_m _ _) (by show 292 * tB a + j < 1168; omega) dX2_acted_78 (fun V78 H locs hq78 hw78 hR hS => ?_)
      refine g_inc (lv' := [(2, _), (1, _), (0, _)]) M dX2_acted_79 hl (k := 0) rfl (by decide) rfl (fun ls hl => ?_)
      refine lv_goto (tgt := 51) hx hb dX2_acted_82 (by decide) ?_
      exact ih51 (292 - (j + 1)) _ _ _ _ _ _ (by omega) ⟨j + 1, _, lv_sub hl [0, 1, 2] rfl, by omega, rfl, (tQ.trans (tQ.trans tQ.rf hs (by decide)) hq78 (by decide)), (hq78.fld (by decide)).trans h6, fun i hi => (congrFun hw78 i).trans ((if_neg (by omega)).trans (hold i hi)), fun i hi => (congrFun hw78 (292 * tB a + i)).trans (by by_cases e : i = j; subst e; exact if_pos rfl; exact (if_neg (by omega)).trans (hc i (by omega))), rfl, rfl, rfl⟩ hR hS
  · have ha9 : a = 4 := (nI_eq (by omega) (by decide : 4 < 2 ^ 31)).mp c5
    refine lv_iconst (v := (0 : Int32)) hx hb dX2_acted_8 (by decide) ?_
    refine lv_istore_n (lv' := [(2, _), (0, _), (1, _)]) hx hb dX2_acted_9 rfl hl (by decide) rfl (fun ls hl => ?_)
    refine g_loop (pc := 10) (fun (k : Nat) (ls : Array Slot) (G : gG) (cells slots : Nat) => ∃ j V1, lv_has ls 3 [(2, .int (nI j)), (1, .int x), (0, .ref (A 0))] ∧ j ≤ 876 ∧ k = 876 - j ∧ tQ [5, 6] V V1 ∧ V1.1 6 = nI a ∧ (∀ i, i < j → V1.2.1 5 i = V.2.1 5 (i + 292)) ∧ (∀ i, j ≤ i → V1.2.1 5 i = V.2.1 5 i) ∧ G = tG K G0 A V1 ∧ cells = 0 ∧ slots = 0) ?_ (876) ⟨0, _, lv_sub hl [0, 2, 1] rfl, by omega, rfl, tQ.rf, ha, fun i hi => absurd hi (Nat.not_lt_zero _), fun i hi => rfl, rfl, rfl, rfl⟩ hR hS
    intro k ls G H locs cells slots hI hR hS ih10
    obtain ⟨j, V1, hl, hj, rfl, hs, h6, hc, hd, rfl, rfl, rfl⟩ := hI
    refine lv_iload_n hx hb dX2_acted_10 rfl (lv_at hl 0 rfl) ?_
    refine lv_sipush (v := (876 : Int32)) hx hb dX2_acted_11 (by decide) ?_
    refine lv_icmp_ge (tgt := 39) hx hb dX2_acted_14 (by decide) (fun c14 => ?_) (fun c14 => ?_)
    · have h9 : j = 876 := eq_of_ge (n := 876) c14 hj (by decide)
      refine lv_aload_n hx hb dX2_acted_39 rfl (lv_at hl 2 rfl) ?_
      refine lv_dup hx hb dX2_acted_40 rfl ?_
      refine t_getE M hA hR 6 (by decide) (h6) q1045 rfl dX2_acted_41 ?_
      refine lv_iconst (v := (1 : Int32)) hx hb dX2_acted_44 (by decide) ?_
      refine lv_isub hx hb dX2_acted_45 ?_
      refine t_putQ M hA hR hS 6 (by decide) q1045 ⟨rfl, rfl⟩ rfl rfl dX2_acted_46 (fun V46 H locs hq46 hw46 hz46 hR hS => ?_)
      have hV6 : V46.1 6 = nI (tB a) := hw46.trans (by subst ha9; exact nI_pred 3)
      have hold : ∀ i, i < 292 * tB a → V46.2.1 5 i = tOld V a i := fun i hi => (congrFun (hq46.arr (by decide)) i).trans ((hc i (by subst ha9; have hi : i < 292 * 3 := hi; omega)).trans (if_pos ha9).symm)
      refine lv_iconst (v := (0 : Int32)) hx hb dX2_acted_49 (by decide) ?_
      refine lv_istore_n (lv' := [(2, _), (1, _), (0, _)]) hx hb dX2_acted_50 rfl hl (by decide) rfl (fun ls hl => ?_)
      refine g_loop (pc := 51) (fun (k : Nat) (ls : Array Slot) (G : gG) (cells slots : Nat) => ∃ j V1, lv_has ls 3 [(2, .int (nI j)), (1, .int x), (0, .ref (A 0))] ∧ j ≤ 292 ∧ k = 292 - j ∧ tQ [5, 6] V V1 ∧ V1.1 6 = nI (tB a) ∧ (∀ i, i < 292 * tB a → V1.2.1 5 i = tOld V a i) ∧ (∀ i, i < j → V1.2.1 5 (292 * tB a + i) = F i) ∧ G = tG K G0 A V1 ∧ cells = 0 ∧ slots = 0) ?_ (292) ⟨0, _, lv_sub hl [0, 1, 2] rfl, by omega, rfl, (tQ.trans (tQ.trans tQ.rf hs (by decide)) hq46 (by decide)), hV6, hold, fun i hi => absurd hi (Nat.not_lt_zero _), rfl, rfl, rfl⟩ hR hS
      intro k ls G H locs cells slots hI hR hS ih51
      obtain ⟨j, V1, hl, hj, rfl, hs, h6, hold, hc, rfl, rfl, rfl⟩ := hI
      refine lv_iload_n hx hb dX2_acted_51 rfl (lv_at hl 0 rfl) ?_
      refine lv_sipush (v := (292 : Int32)) hx hb dX2_acted_52 (by decide) ?_
      refine lv_icmp_ge (tgt := 85) hx hb dX2_acted_55 (by decide) (fun c55 => ?_) (fun c55 => ?_)
      · have h9 : j = 292 := eq_of_ge (n := 292) c55 hj (by decide)
        refine lv_aload_n hx hb dX2_acted_85 rfl (lv_at hl 2 rfl) ?_
        refine lv_dup hx hb dX2_acted_86 rfl ?_
        refine t_getE M hA hR 6 (by decide) (h6) q1045 rfl dX2_acted_87 ?_
        refine lv_iconst (v := (1 : Int32)) hx hb dX2_acted_90 (by decide) ?_
        refine lv_iadd hx hb dX2_acted_91 ?_
        refine t_putQ M hA hR hS 6 (by decide) q1045 ⟨rfl, rfl⟩ rfl rfl dX2_acted_92 (fun V92 H locs hq92 hw92 hz92 hR hS => ?_)
        refine lv_iload_n hx hb dX2_acted_95 rfl (lv_at hl 1 rfl) ?_
        exact g_iret M hr hlk hR hS (by omega) (by omega) dX2_acted_96 (⟨rfl, _, rfl, (tQ.trans (tQ.trans tQ.rf hs (by decide)) hq92 (by decide)), hw92.trans (nI_1 _), fun i hi => (congrFun (hq92.arr (by decide)) i).trans (hold i hi), fun i hi => (congrFun (hq92.arr (by decide)) _).trans (hc i (by omega))⟩)
      · have hj3 : j < 292 := lt_of_not (n := 292) c55 (by omega)
        have hb3 : tB a ≤ 3 := by unfold tB; split <;> omega
        refine lv_aload_n hx hb dX2_acted_58 rfl (lv_at hl 2 rfl) ?_
        refine t_get M hA hR 5 (by decide) q1044 rfl rfl dX2_acted_59 ?_
        refine lv_sipush (v := (292 : Int32)) hx hb dX2_acted_62 (by decide) ?_
        refine lv_aload_n hx hb dX2_acted_65 rfl (lv_at hl 2 rfl) ?_
        refine t_getE M hA hR 6 (by decide) (h6) q1045 rfl dX2_acted_66 ?_
        refine lv_imul hx hb dX2_acted_69 ?_
        refine lv_iload_n hx hb dX2_acted_70 rfl (lv_at hl 0 rfl) ?_
        refine lv_iadd hx hb dX2_acted_71 ?_
        refine lv_aload_n hx hb dX2_acted_72 rfl (lv_at hl 2 rfl) ?_
        refine t_get M hA hR 2 (by decide) q1041 rfl rfl dX2_acted_73 ?_
        refine lv_iload_n hx hb dX2_acted_76 rfl (lv_at hl 0 rfl) ?_
        refine t_aldE M hA ((congrFun (hs.arr (by decide)) j).trans (congrFun hput j)) hR (by decide) rfl hj3 dX2_acted_77 ?_
        refine t_astQ M hA hR hS 5 (by decide) rfl (292 * tB a + j) (ix_m _ _) (by show 292 * tB a + j < 1168; omega) dX2_acted_78 (fun V78 H locs hq78 hw78 hR hS => ?_)
        refine g_inc (lv' := [(2, _), (1, _), (0, _)]) M dX2_acted_79 hl (k := 0) rfl (by decide) rfl (fun ls hl => ?_)
        refine lv_goto (tgt := 51) hx hb dX2_acted_82 (by decide) ?_
        exact ih51 (292 - (j + 1)) _ _ _ _ _ _ (by omega) ⟨j + 1, _, lv_sub hl [0, 1, 2] rfl, by omega, rfl, (tQ.trans (tQ.trans tQ.rf hs (by decide)) hq78 (by decide)), (hq78.fld (by decide)).trans h6, fun i hi => (congrFun hw78 i).trans ((if_neg (by omega)).trans (hold i hi)), fun i hi => (congrFun hw78 (292 * tB a + i)).trans (by by_cases e : i = j; subst e; exact if_pos rfl; exact (if_neg (by omega)).trans (hc i (by omega))), rfl, rfl, rfl⟩ hR hS
    · have hj2 : j < 876 := lt_of_not (n := 876) c14 (by omega)
      refine lv_aload_n hx hb dX2_acted_17 rfl (lv_at hl 2 rfl) ?_
      refine t_get M hA hR 5 (by decide) q1044 rfl rfl dX2_acted_18 ?_
      refine lv_iload_n hx hb dX2_acted_21 rfl (lv_at hl 0 rfl) ?_
      refine lv_aload_n hx hb dX2_acted_22 rfl (lv_at hl 2 rfl) ?_
      refine t_get M hA hR 5 (by decide) q1044 rfl rfl dX2_acted_23 ?_
      refine lv_iload_n hx hb dX2_acted_26 rfl (lv_at hl 0 rfl) ?_
      refine lv_sipush (v := (292 : Int32)) hx hb dX2_acted_27 (by decide) ?_
      refine lv_iadd hx hb dX2_acted_30 ?_
      refine t_aldE M hA (hd (j + 292) (by omega)) hR (by decide) (nI_add j 292) (by show j + 292 < 1168; omega) dX2_acted_31 ?_
      refine t_astQ M hA hR hS 5 (by decide) rfl j rfl (by show j < 1168; omega) dX2_acted_32 (fun V32 H locs hq32 hw32 hR hS => ?_)
      refine g_inc (lv' := [(2, _), (1, _), (0, _)]) M dX2_acted_33 hl (k := 0) rfl (by decide) rfl (fun ls hl => ?_)
      refine lv_goto (tgt := 10) hx hb dX2_acted_36 (by decide) ?_
      exact ih10 (876 - (j + 1)) _ _ _ _ _ _ (by omega) ⟨j + 1, _, lv_sub hl [0, 1, 2] rfl, by omega, rfl, (tQ.trans (tQ.trans tQ.rf hs (by decide)) hq32 (by decide)), (hq32.fld (by decide)).trans h6, fun i hi => (congrFun hw32 i).trans (wy_s (q := fun i => V.2.1 5 (i + 292)) hc rfl i hi), fun i hi => (congrFun hw32 i).trans ((if_neg (by omega)).trans (hd i (by omega))), rfl, rfl, rfl⟩ hR hS

theorem md_X2_beStrong : gMd yX2_beStrong 2 := by
  unfold gMd
  decide +kernel
set_option maxHeartbeats 4000000 in
set_option maxRecDepth 100000 in
theorem c_X2_beStrong (l : Launch) (K : gK) {G0 : gG} {A : Nat → Nat} {V : tV} {F : Nat → Int32} (hA : tInj A) (hF : V.2.1 1 = F) (o : Nat) (v : UInt32) (ho : o < 40) : Met l yX2_beStrong (ws_ yX2_beStrong cX2_beStrong 3 (Option.none : Option Jvm.ClassFile.FieldType)) (gRm 1 0 0 60) (gPre K [.ref (A 0), .int (nI o), .float v] (tG K G0 A V)) (gQv K (fun G1 => ∃ V1, G1 = tG K G0 A V1 ∧ tQ [1] V V1 ∧ V1.2.1 1 = upd F (12 + 7 * o + 5) v.toInt32)) 0 0 (gA K) := by
  refine g_met (by decide) (Nat.le_of_ble_eq_true rfl) ?_
  intro p e s m below meth c M hr hlk hnm hR ls hl
  have M : gM K p s m _ c cX2_beStrong 3 RX2 := M
  have hx := M.hx
  have hb := M.hb
  have hS : va_S (gA K) s.heap s.heap [] := va_S.rf
  have hl : lv_has ls 3 [(0, .ref (A 0)), (1, .int (nI o)), (2, .float v)] := hl
  have hF0 := hF
  refine lv_aload_n hx hb dX2_beStrong_0 rfl (lv_at hl 0 rfl) ?_
  refine t_get M hA hR 1 (by decide) q1040 rfl rfl dX2_beStrong_1 ?_
  refine lv_bipush (v := (12 : Int32)) hx hb dX2_beStrong_4 (by decide) ?_
  refine lv_bipush (v := (7 : Int32)) hx hb dX2_beStrong_6 (by decide) ?_
  refine lv_iload_n hx hb dX2_beStrong_8 rfl (lv_at hl 1 rfl) ?_
  refine lv_imul hx hb dX2_beStrong_9 ?_
  refine lv_iadd hx hb dX2_beStrong_10 ?_
  refine lv_iconst (v := (5 : Int32)) hx hb dX2_beStrong_11 (by decide) ?_
  refine lv_iadd hx hb dX2_beStrong_12 ?_
  refine lv_fload_n hx hb dX2_beStrong_13 rfl (lv_at hl 2 rfl) ?_
  refine g_f2i M hl.1 q1131 q435 q434 q78 dX2_beStrong_14 (Nat.le_of_ble_eq_true rfl) (Nat.le_of_ble_eq_true rfl) ?_
  refine t_astQ M hA hR hS 1 (by decide) (by first | assumption | rfl) (12 + 7 * o + 5) (ix_o o 5) (by show _ < 292; omega) dX2_beStrong_17 (fun V17 H locs hq17 hw17 hR hS => ?_)
  have hF := hw17
  exact g_vret M hr hlk hR hS (by omega) (by omega) dX2_beStrong_18 (⟨_, rfl, (tQ.trans tQ.rf hq17 (by decide)), hw17⟩)

theorem md_X2_nails : gMd yX2_nails 6 := by
  unfold gMd
  decide +kernel
set_option maxHeartbeats 4000000 in
set_option maxRecDepth 100000 in
theorem c_X2_nails (l : Launch) (K : gK) {G0 : gG} {A : Nat → Nat} {V : tV} {F : Nat → Int32} (hA : tInj A) (hF : V.2.1 1 = F) (p9 w link fac num str : Int32) {P N : Nat} (ok : fOk F P N) : Met l yX2_nails (ws_ yX2_nails cX2_nails 8 (Option.some Jvm.ClassFile.FieldType.int)) (gRm 3 0 0 103) (gPre K [.ref (A 0), .int p9, .int w, .int link, .int fac, .int num, .int str] (tG K G0 A V)) (gQi K (fun r G1 => r = fNr F N p9 w link fac num str ∧ ∃ V1, G1 = tG K G0 A V1 ∧ tQ [1] V V1 ∧ V1.2.1 1 = fNw F N p9 w link fac num str)) 0 0 (gA K) := by
  refine g_met (by decide) (Nat.le_of_ble_eq_true rfl) ?_
  intro p e s m below meth c M hr hlk hnm hR ls hl
  have M : gM K p s m _ c cX2_nails 8 RX2 := M
  have hx := M.hx
  have hb := M.hb
  have hS : va_S (gA K) s.heap s.heap [] := va_S.rf
  have hl : lv_has ls 8 [(0, .ref (A 0)), (1, .int p9), (2, .int w), (3, .int link), (4, .int fac), (5, .int num), (6, .int str)] := hl
  have hF0 := hF
  have hN := ok.hN
  have hN2 := ok.hN2
  refine lv_aload_n hx hb dX2_nails_0 rfl (lv_at hl 0 rfl) ?_
  refine lv_iload_n hx hb dX2_nails_1 rfl (lv_at hl 1 rfl) ?_
  refine g_ki (g_V (As := [_]) M hR hS (c_X2_isPerson l K hA (by first | assumption | rfl) _) (lw_V q1109 q1111 qs24 q73 q1112) 1 md_X2_isPerson rfl ⟨rfl, rfl⟩ ⟨Nat.le_of_ble_eq_true rfl, Nat.le_of_ble_eq_true rfl⟩ (hR.recv M (tG_0 hA) rfl) rfl hl.1 rfl (lv_room (Nat.le_of_ble_eq_true rfl)) dX2_nails_2 ⟨(by first | exact Nat.le_refl _ | exact Nat.zero_le _ | (dsimp only; omega)), (by first | exact Nat.le_refl _ | exact Nat.zero_le _ | (dsimp only; omega))⟩) hS (fun r2 G2 H locs hp2 hR hS => ?_)
  obtain ⟨rfl, rfl⟩ := hp2
  refine lv_if_eq (tgt := 28) hx hb dX2_nails_5 (by decide) (fun c5 => ?_) (fun c5 => ?_)
  · have hz : fNr F N p9 w link fac num str = -1 := if_pos (by simp [bI_0.mp c5])
    refine lv_iconst (v := ((-1) : Int32)) hx hb dX2_nails_28 (by decide) ?_
    exact g_iret M hr hlk hR hS (by omega) (by omega) dX2_nails_29 (⟨hz.symm, _, rfl, tQ.rf, hF.trans (if_pos (by rw [hz]; decide)).symm⟩)
  · refine lv_iload_n hx hb dX2_nails_8 rfl (lv_at hl 2 rfl) ?_
    refine g_ki (g_S (As := [_]) M hR hS (c_X2_isWord l K _) (lw_S q1136 q1137 q73 q1138) 1 md_X2_isWord ⟨rfl, rfl⟩ ⟨Nat.le_of_ble_eq_true rfl, Nat.le_of_ble_eq_true rfl⟩ rfl hl.1 rfl (lv_room (Nat.le_of_ble_eq_true rfl)) dX2_nails_9 ⟨(by first | exact Nat.le_refl _ | exact Nat.zero_le _ | (dsimp only; omega)), (by first | exact Nat.le_refl _ | exact Nat.zero_le _ | (dsimp only; omega))⟩) hS (fun r9 G9 H locs hp9 hR hS => ?_)
    obtain ⟨rfl, e0⟩ := hp9
    rw [e0] at hR
    refine lv_if_eq (tgt := 28) hx hb dX2_nails_12 (by decide) (fun c12 => ?_) (fun c12 => ?_)
    · have hz : fNr F N p9 w link fac num str = -1 := if_pos (by simp [bI_0.mp c12])
      refine lv_iconst (v := ((-1) : Int32)) hx hb dX2_nails_28 (by decide) ?_
      exact g_iret M hr hlk hR hS (by omega) (by omega) dX2_nails_29 (⟨hz.symm, _, rfl, tQ.rf, hF.trans (if_pos (by rw [hz]; decide)).symm⟩)
    · refine lv_iload_n hx hb dX2_nails_15 rfl (lv_at hl 3 rfl) ?_
      refine lv_bipush (v := ((-5) : Int32)) hx hb dX2_nails_16 (by decide) ?_
      refine lv_icmp_eq (tgt := 30) hx hb dX2_nails_18 (by decide) (fun c18 => ?_) (fun c18 => ?_)
      · have hu : ¬ (!(fIn p9 0 (F 0 - 1) && fIn w 0 15 && (decide (link = -5) || fIn link 0 15))) = true := by simp [bI_n0.mp c5, bI_n0.mp c12, c18]
        refine lv_iload hx hb dX2_nails_30 (lv_at hl 4 rfl) ?_
        refine g_ki (g_S (As := [_]) M hR hS (c_X2_isNumber l K _) (lw_S q1139 q1140 q73 q1141) 1 md_X2_isNumber ⟨rfl, rfl⟩ ⟨Nat.le_of_ble_eq_true rfl, Nat.le_of_ble_eq_true rfl⟩ rfl hl.1 rfl (lv_room (Nat.le_of_ble_eq_true rfl)) dX2_nails_32 ⟨(by first | exact Nat.le_refl _ | exact Nat.zero_le _ | (dsimp only; omega)), (by first | exact Nat.le_refl _ | exact Nat.zero_le _ | (dsimp only; omega))⟩) hS (fun r32 G32 H locs hp32 hR hS => ?_)
        obtain ⟨rfl, e0⟩ := hp32
        rw [e0] at hR
        refine lv_if_eq (tgt := 59) hx hb dX2_nails_35 (by decide) (fun c35 => ?_) (fun c35 => ?_)
        · have hz : fNr F N p9 w link fac num str = -2 := (if_neg hu).trans (if_pos (by simp [bI_0.mp c35]))
          refine lv_bipush (v := ((-2) : Int32)) hx hb dX2_nails_59 (by decide) ?_
          exact g_iret M hr hlk hR hS (by omega) (by omega) dX2_nails_61 (⟨hz.symm, _, rfl, tQ.rf, hF.trans (if_pos (by rw [hz]; decide)).symm⟩)
        · refine lv_iload hx hb dX2_nails_38 (lv_at hl 5 rfl) ?_
          refine g_ki (g_S (As := [_]) M hR hS (c_X2_isNumber l K _) (lw_S q1139 q1140 q73 q1141) 1 md_X2_isNumber ⟨rfl, rfl⟩ ⟨Nat.le_of_ble_eq_true rfl, Nat.le_of_ble_eq_true rfl⟩ rfl hl.1 rfl (lv_room (Nat.le_of_ble_eq_true rfl)) dX2_nails_40 ⟨(by first | exact Nat.le_refl _ | exact Nat.zero_le _ | (dsimp only; omega)), (by first | exact Nat.le_refl _ | exact Nat.zero_le _ | (dsimp only; omega))⟩) hS (fun r40 G40 H locs hp40 hR hS => ?_)
          obtain ⟨rfl, e0⟩ := hp40
          rw [e0] at hR
          refine lv_if_eq (tgt := 59) hx hb dX2_nails_43 (by decide) (fun c43 => ?_) (fun c43 => ?_)
          · have hz : fNr F N p9 w link fac num str = -2 := (if_neg hu).trans (if_pos (by simp [bI_0.mp c43]))
            refine lv_bipush (v := ((-2) : Int32)) hx hb dX2_nails_59 (by decide) ?_
            exact g_iret M hr hlk hR hS (by omega) (by omega) dX2_nails_61 (⟨hz.symm, _, rfl, tQ.rf, hF.trans (if_pos (by rw [hz]; decide)).symm⟩)
          · refine lv_iload hx hb dX2_nails_46 (lv_at hl 6 rfl) ?_
            refine g_ki (g_S (As := [_]) M hR hS (c_X2_isForce l K _) (lw_S q1144 q1145 q73 q1146) 1 md_X2_isForce ⟨rfl, rfl⟩ ⟨Nat.le_of_ble_eq_true rfl, Nat.le_of_ble_eq_true rfl⟩ rfl hl.1 rfl (lv_room (Nat.le_of_ble_eq_true rfl)) dX2_nails_48 ⟨(by first | exact Nat.le_refl _ | exact Nat.zero_le _ | (dsimp only; omega)), (by first | exact Nat.le_refl _ | exact Nat.zero_le _ | (dsimp only; omega))⟩) hS (fun r48 G48 H locs hp48 hR hS => ?_)
            obtain ⟨rfl, e0⟩ := hp48
            rw [e0] at hR
            refine lv_if_eq (tgt := 59) hx hb dX2_nails_51 (by decide) (fun c51 => ?_) (fun c51 => ?_)
            · have hz : fNr F N p9 w link fac num str = -2 := (if_neg hu).trans (if_pos (by simp [bI_0.mp c51]))
              refine lv_bipush (v := ((-2) : Int32)) hx hb dX2_nails_59 (by decide) ?_
              exact g_iret M hr hlk hR hS (by omega) (by omega) dX2_nails_61 (⟨hz.symm, _, rfl, tQ.rf, hF.trans (if_pos (by rw [hz]; decide)).symm⟩)
            · refine lv_iload_n hx hb dX2_nails_54 rfl (lv_at hl 3 rfl) ?_
              refine lv_iload_n hx hb dX2_nails_55 rfl (lv_at hl 2 rfl) ?_
              refine lv_icmp_ne (tgt := 62) hx hb dX2_nails_56 (by decide) (fun c56 => ?_) (fun c56 => ?_)
              · have hu2 : ¬ (!(fFrom fac 3296329728 1148846080 && fFrom num 3296329728 1148846080 && fFrom str 1036831949 1092616192 && !decide (link = w))) = true := by simp [bI_n0.mp c35, bI_n0.mp c43, bI_n0.mp c51, c56]
                refine lv_aload_n hx hb dX2_nails_62 rfl (lv_at hl 0 rfl) ?_
                refine g_ki (g_V (As := []) M hR hS (c_X2_allHang l K hA (by first | assumption | rfl) (by assumption)) (lw_V q1149 q1151 qs26 q73 q1152) 0 md_X2_allHang rfl ⟨rfl, rfl⟩ ⟨Nat.le_of_ble_eq_true rfl, Nat.le_of_ble_eq_true rfl⟩ (hR.recv M (tG_0 hA) rfl) rfl hl.1 rfl (lv_room (Nat.le_of_ble_eq_true rfl)) dX2_nails_63 ⟨(by first | exact Nat.le_refl _ | exact Nat.zero_le _ | (dsimp only; omega)), (by first | exact Nat.le_refl _ | exact Nat.zero_le _ | (dsimp only; omega))⟩) hS (fun r63 G63 H locs hp63 hR hS => ?_)
                obtain ⟨rfl, rfl⟩ := hp63
                refine lv_bipush (v := (24 : Int32)) hx hb dX2_nails_66 (by decide) ?_
                refine lv_icmp_eq (tgt := 82) hx hb dX2_nails_68 (by decide) (fun c68 => ?_) (fun c68 => ?_)
                · have hz : fNr F N p9 w link fac num str = -3 := (if_neg hu).trans ((if_neg hu2).trans (if_pos (Or.inl c68)))
                  refine lv_bipush (v := ((-3) : Int32)) hx hb dX2_nails_82 (by decide) ?_
                  exact g_iret M hr hlk hR hS (by omega) (by omega) dX2_nails_84 (⟨hz.symm, _, rfl, tQ.rf, hF.trans (if_pos (by rw [hz]; decide)).symm⟩)
                · refine lv_aload_n hx hb dX2_nails_71 rfl (lv_at hl 0 rfl) ?_
                  refine t_get M hA hR 1 (by decide) q1040 rfl rfl dX2_nails_72 ?_
                  refine lv_iconst (v := (1 : Int32)) hx hb dX2_nails_75 (by decide) ?_
                  refine t_aldE M hA ((congrFun hF 1).trans hN) hR (by decide) rfl (by decide) dX2_nails_76 ?_
                  refine lv_bipush (v := (40 : Int32)) hx hb dX2_nails_77 (by decide) ?_
                  refine lv_icmp_ne (tgt := 85) hx hb dX2_nails_79 (by decide) (fun c79 => ?_) (fun c79 => ?_)
                  · have hn40 : ¬ N = 40 := fun z => c79 (by rw [z]; rfl)
                    have hz : fNr F N p9 w link fac num str = nI N := (if_neg hu).trans ((if_neg hu2).trans (if_neg (fun z => z.elim c68 c79)))
                    refine lv_bipush (v := (12 : Int32)) hx hb dX2_nails_85 (by decide) ?_
                    refine lv_bipush (v := (7 : Int32)) hx hb dX2_nails_87 (by decide) ?_
                    refine lv_aload_n hx hb dX2_nails_89 rfl (lv_at hl 0 rfl) ?_
                    refine t_get M hA hR 1 (by decide) q1040 rfl rfl dX2_nails_90 ?_
                    refine lv_iconst (v := (1 : Int32)) hx hb dX2_nails_93 (by decide) ?_
                    refine t_aldE M hA ((congrFun hF 1).trans hN) hR (by decide) rfl (by decide) dX2_nails_94 ?_
                    refine lv_imul hx hb dX2_nails_95 ?_
                    refine lv_iadd hx hb dX2_nails_96 ?_
                    refine g_topi (nI (12 + 7 * N)) (ix_7 N) ?_
                    refine lv_istore (lv' := [(7, _), (0, _), (1, _), (2, _), (3, _), (4, _), (5, _), (6, _)]) hx hb dX2_nails_97 hl (by decide) rfl (fun ls hl => ?_)
                    refine lv_aload_n hx hb dX2_nails_99 rfl (lv_at hl 1 rfl) ?_
                    refine t_get M hA hR 1 (by decide) q1040 rfl rfl dX2_nails_100 ?_
                    refine lv_iload hx hb dX2_nails_103 (lv_at hl 0 rfl) ?_
                    refine lv_iload_n hx hb dX2_nails_105 rfl (lv_at hl 2 rfl) ?_
                    refine t_astQ M hA hR hS 1 (by decide) (by first | assumption | rfl) (12 + 7 * N + 0) rfl (by show _ < 292; omega) dX2_nails_106 (fun V106 H locs hq106 hw106 hR hS => ?_)
                    have hF := hw106
                    refine lv_aload_n hx hb dX2_nails_107 rfl (lv_at hl 1 rfl) ?_
                    refine t_get M hA hR 1 (by decide) q1040 rfl rfl dX2_nails_108 ?_
                    refine lv_iload hx hb dX2_nails_111 (lv_at hl 0 rfl) ?_
                    refine lv_iconst (v := (1 : Int32)) hx hb dX2_nails_113 (by decide) ?_
                    refine lv_iadd hx hb dX2_nails_114 ?_
                    refine lv_iload_n hx hb dX2_nails_115 rfl (lv_at hl 3 rfl) ?_
                    refine t_astQ M hA hR hS 1 (by decide) (by first | assumption | rfl) (12 + 7 * N + 1) (nI_add _ 1) (by show _ < 292; omega) dX2_nails_116 (fun V116 H locs hq116 hw116 hR hS => ?_)
                    have hF := hw116
                    refine lv_aload_n hx hb dX2_nails_117 rfl (lv_at hl 1 rfl) ?_
                    refine t_get M hA hR 1 (by decide) q1040 rfl rfl dX2_nails_118 ?_
                    refine lv_iload hx hb dX2_nails_121 (lv_at hl 0 rfl) ?_
                    refine lv_iconst (v := (2 : Int32)) hx hb dX2_nails_123 (by decide) ?_
                    refine lv_iadd hx hb dX2_nails_124 ?_
                    refine lv_iload_n hx hb dX2_nails_125 rfl (lv_at hl 4 rfl) ?_
                    refine t_astQ M hA hR hS 1 (by decide) (by first | assumption | rfl) (12 + 7 * N + 2) (nI_add _ 2) (by show _ < 292; omega) dX2_nails_126 (fun V126 H locs hq126 hw126 hR hS => ?_)
                    have hF := hw126
                    refine lv_aload_n hx hb dX2_nails_127 rfl (lv_at hl 1 rfl) ?_
                    refine t_get M hA hR 1 (by decide) q1040 rfl rfl dX2_nails_128 ?_
                    refine lv_iload hx hb dX2_nails_131 (lv_at hl 0 rfl) ?_
                    refine lv_iconst (v := (3 : Int32)) hx hb dX2_nails_133 (by decide) ?_
                    refine lv_iadd hx hb dX2_nails_134 ?_
                    refine lv_iload hx hb dX2_nails_135 (lv_at hl 5 rfl) ?_
                    refine t_astQ M hA hR hS 1 (by decide) (by first | assumption | rfl) (12 + 7 * N + 3) (nI_add _ 3) (by show _ < 292; omega) dX2_nails_137 (fun V137 H locs hq137 hw137 hR hS => ?_)
                    have hF := hw137
                    refine lv_aload_n hx hb dX2_nails_138 rfl (lv_at hl 1 rfl) ?_
                    refine t_get M hA hR 1 (by decide) q1040 rfl rfl dX2_nails_139 ?_
                    refine lv_iload hx hb dX2_nails_142 (lv_at hl 0 rfl) ?_
                    refine lv_iconst (v := (4 : Int32)) hx hb dX2_nails_144 (by decide) ?_
                    refine lv_iadd hx hb dX2_nails_145 ?_
                    refine lv_iload hx hb dX2_nails_146 (lv_at hl 6 rfl) ?_
                    refine t_astQ M hA hR hS 1 (by decide) (by first | assumption | rfl) (12 + 7 * N + 4) (nI_add _ 4) (by show _ < 292; omega) dX2_nails_148 (fun V148 H locs hq148 hw148 hR hS => ?_)
                    have hF := hw148
                    refine lv_aload_n hx hb dX2_nails_149 rfl (lv_at hl 1 rfl) ?_
                    refine t_get M hA hR 1 (by decide) q1040 rfl rfl dX2_nails_150 ?_
                    refine lv_iload hx hb dX2_nails_153 (lv_at hl 0 rfl) ?_
                    refine lv_iconst (v := (5 : Int32)) hx hb dX2_nails_155 (by decide) ?_
                    refine lv_iadd hx hb dX2_nails_156 ?_
                    refine lv_iload hx hb dX2_nails_157 (lv_at hl 7 rfl) ?_
                    refine t_astQ M hA hR hS 1 (by decide) (by first | assumption | rfl) (12 + 7 * N + 5) (nI_add _ 5) (by show _ < 292; omega) dX2_nails_159 (fun V159 H locs hq159 hw159 hR hS => ?_)
                    have hF := hw159
                    refine lv_aload_n hx hb dX2_nails_160 rfl (lv_at hl 1 rfl) ?_
                    refine t_get M hA hR 1 (by decide) q1040 rfl rfl dX2_nails_161 ?_
                    refine lv_iload hx hb dX2_nails_164 (lv_at hl 0 rfl) ?_
                    refine lv_bipush (v := (6 : Int32)) hx hb dX2_nails_166 (by decide) ?_
                    refine lv_iadd hx hb dX2_nails_168 ?_
                    refine lv_iconst (v := (1 : Int32)) hx hb dX2_nails_169 (by decide) ?_
                    refine t_astQ M hA hR hS 1 (by decide) (by first | assumption | rfl) (12 + 7 * N + 6) (nI_add _ 6) (by show _ < 292; omega) dX2_nails_170 (fun V170 H locs hq170 hw170 hR hS => ?_)
                    have hF := hw170
                    refine lv_aload_n hx hb dX2_nails_171 rfl (lv_at hl 1 rfl) ?_
                    refine t_get M hA hR 1 (by decide) q1040 rfl rfl dX2_nails_172 ?_
                    refine lv_iconst (v := (1 : Int32)) hx hb dX2_nails_175 (by decide) ?_
                    refine lv_dup2_11 hx hb dX2_nails_176 rfl rfl ?_
                    refine t_aldE M hA ((congrFun hF 1).trans ((up_lo (by omega)).trans ((up_lo (by omega)).trans ((up_lo (by omega)).trans ((up_lo (by omega)).trans ((up_lo (by omega)).trans ((up_lo (by omega)).trans ((up_lo (by omega)).trans (hN))))))))) hR (by decide) rfl (by decide) dX2_nails_177 ?_
                    refine lv_iconst (v := (1 : Int32)) hx hb dX2_nails_178 (by decide) ?_
                    refine lv_iadd hx hb dX2_nails_179 ?_
                    refine g_topi (nI (N + 1)) (nI_1 N) ?_
                    refine t_astQ M hA hR hS 1 (by decide) (by first | assumption | rfl) 1 rfl (by decide) dX2_nails_180 (fun V180 H locs hq180 hw180 hR hS => ?_)
                    have hF := hw180
                    refine lv_aload_n hx hb dX2_nails_181 rfl (lv_at hl 1 rfl) ?_
                    refine t_get M hA hR 1 (by decide) q1040 rfl rfl dX2_nails_182 ?_
                    refine lv_iconst (v := (1 : Int32)) hx hb dX2_nails_185 (by decide) ?_
                    refine t_aldE M hA ((congrFun hF 1).trans up_at) hR (by decide) rfl (by decide) dX2_nails_186 ?_
                    refine lv_iconst (v := (1 : Int32)) hx hb dX2_nails_187 (by decide) ?_
                    refine lv_isub hx hb dX2_nails_188 ?_
                    refine g_topi (nI N) (nI_pred N) ?_
                    exact g_iret M hr hlk hR hS (by omega) (by omega) dX2_nails_189 (⟨hz.symm, _, rfl, (tQ.trans (tQ.trans (tQ.trans (tQ.trans (tQ.trans (tQ.trans (tQ.trans (tQ.trans tQ.rf hq106 (by decide)) hq116 (by decide)) hq126 (by decide)) hq137 (by decide)) hq148 (by decide)) hq159 (by decide)) hq170 (by decide)) hq180 (by decide)), hF.trans (if_neg (by rw [hz]; exact nI_pos (by omega))).symm⟩)
                  · have hz : fNr F N p9 w link fac num str = -3 := (if_neg hu).trans ((if_neg hu2).trans (if_pos (Or.inr c79)))
                    refine lv_bipush (v := ((-3) : Int32)) hx hb dX2_nails_82 (by decide) ?_
                    exact g_iret M hr hlk hR hS (by omega) (by omega) dX2_nails_84 (⟨hz.symm, _, rfl, tQ.rf, hF.trans (if_pos (by rw [hz]; decide)).symm⟩)
              · have hz : fNr F N p9 w link fac num str = -2 := (if_neg hu).trans (if_pos (by simp [c56]))
                refine lv_bipush (v := ((-2) : Int32)) hx hb dX2_nails_59 (by decide) ?_
                exact g_iret M hr hlk hR hS (by omega) (by omega) dX2_nails_61 (⟨hz.symm, _, rfl, tQ.rf, hF.trans (if_pos (by rw [hz]; decide)).symm⟩)
      · refine lv_iload_n hx hb dX2_nails_21 rfl (lv_at hl 3 rfl) ?_
        refine g_ki (g_S (As := [_]) M hR hS (c_X2_isWord l K _) (lw_S q1136 q1137 q73 q1138) 1 md_X2_isWord ⟨rfl, rfl⟩ ⟨Nat.le_of_ble_eq_true rfl, Nat.le_of_ble_eq_true rfl⟩ rfl hl.1 rfl (lv_room (Nat.le_of_ble_eq_true rfl)) dX2_nails_22 ⟨(by first | exact Nat.le_refl _ | exact Nat.zero_le _ | (dsimp only; omega)), (by first | exact Nat.le_refl _ | exact Nat.zero_le _ | (dsimp only; omega))⟩) hS (fun r22 G22 H locs hp22 hR hS => ?_)
        obtain ⟨rfl, e0⟩ := hp22
        rw [e0] at hR
        refine lv_if_ne (tgt := 30) hx hb dX2_nails_25 (by decide) (fun c25 => ?_) (fun c25 => ?_)
        · have hu : ¬ (!(fIn p9 0 (F 0 - 1) && fIn w 0 15 && (decide (link = -5) || fIn link 0 15))) = true := by simp [bI_n0.mp c5, bI_n0.mp c12, bI_n0.mp c25]
          refine lv_iload hx hb dX2_nails_30 (lv_at hl 4 rfl) ?_
          refine g_ki (g_S (As := [_]) M hR hS (c_X2_isNumber l K _) (lw_S q1139 q1140 q73 q1141) 1 md_X2_isNumber ⟨rfl, rfl⟩ ⟨Nat.le_of_ble_eq_true rfl, Nat.le_of_ble_eq_true rfl⟩ rfl hl.1 rfl (lv_room (Nat.le_of_ble_eq_true rfl)) dX2_nails_32 ⟨(by first | exact Nat.le_refl _ | exact Nat.zero_le _ | (dsimp only; omega)), (by first | exact Nat.le_refl _ | exact Nat.zero_le _ | (dsimp only; omega))⟩) hS (fun r32 G32 H locs hp32 hR hS => ?_)
          obtain ⟨rfl, e0⟩ := hp32
          rw [e0] at hR
          refine lv_if_eq (tgt := 59) hx hb dX2_nails_35 (by decide) (fun c35 => ?_) (fun c35 => ?_)
          · have hz : fNr F N p9 w link fac num str = -2 := (if_neg hu).trans (if_pos (by simp [bI_0.mp c35]))
            refine lv_bipush (v := ((-2) : Int32)) hx hb dX2_nails_59 (by decide) ?_
            exact g_iret M hr hlk hR hS (by omega) (by omega) dX2_nails_61 (⟨hz.symm, _, rfl, tQ.rf, hF.trans (if_pos (by rw [hz]; decide)).symm⟩)
          · refine lv_iload hx hb dX2_nails_38 (lv_at hl 5 rfl) ?_
            refine g_ki (g_S (As := [_]) M hR hS (c_X2_isNumber l K _) (lw_S q1139 q1140 q73 q1141) 1 md_X2_isNumber ⟨rfl, rfl⟩ ⟨Nat.le_of_ble_eq_true rfl, Nat.le_of_ble_eq_true rfl⟩ rfl hl.1 rfl (lv_room (Nat.le_of_ble_eq_true rfl)) dX2_nails_40 ⟨(by first | exact Nat.le_refl _ | exact Nat.zero_le _ | (dsimp only; omega)), (by first | exact Nat.le_refl _ | exact Nat.zero_le _ | (dsimp only; omega))⟩) hS (fun r40 G40 H locs hp40 hR hS => ?_)
            obtain ⟨rfl, e0⟩ := hp40
            rw [e0] at hR
            refine lv_if_eq (tgt := 59) hx hb dX2_nails_43 (by decide) (fun c43 => ?_) (fun c43 => ?_)
            · have hz : fNr F N p9 w link fac num str = -2 := (if_neg hu).trans (if_pos (by simp [bI_0.mp c43]))
              refine lv_bipush (v := ((-2) : Int32)) hx hb dX2_nails_59 (by decide) ?_
              exact g_iret M hr hlk hR hS (by omega) (by omega) dX2_nails_61 (⟨hz.symm, _, rfl, tQ.rf, hF.trans (if_pos (by rw [hz]; decide)).symm⟩)
            · refine lv_iload hx hb dX2_nails_46 (lv_at hl 6 rfl) ?_
              refine g_ki (g_S (As := [_]) M hR hS (c_X2_isForce l K _) (lw_S q1144 q1145 q73 q1146) 1 md_X2_isForce ⟨rfl, rfl⟩ ⟨Nat.le_of_ble_eq_true rfl, Nat.le_of_ble_eq_true rfl⟩ rfl hl.1 rfl (lv_room (Nat.le_of_ble_eq_true rfl)) dX2_nails_48 ⟨(by first | exact Nat.le_refl _ | exact Nat.zero_le _ | (dsimp only; omega)), (by first | exact Nat.le_refl _ | exact Nat.zero_le _ | (dsimp only; omega))⟩) hS (fun r48 G48 H locs hp48 hR hS => ?_)
              obtain ⟨rfl, e0⟩ := hp48
              rw [e0] at hR
              refine lv_if_eq (tgt := 59) hx hb dX2_nails_51 (by decide) (fun c51 => ?_) (fun c51 => ?_)
              · have hz : fNr F N p9 w link fac num str = -2 := (if_neg hu).trans (if_pos (by simp [bI_0.mp c51]))
                refine lv_bipush (v := ((-2) : Int32)) hx hb dX2_nails_59 (by decide) ?_
                exact g_iret M hr hlk hR hS (by omega) (by omega) dX2_nails_61 (⟨hz.symm, _, rfl, tQ.rf, hF.trans (if_pos (by rw [hz]; decide)).symm⟩)
              · refine lv_iload_n hx hb dX2_nails_54 rfl (lv_at hl 3 rfl) ?_
                refine lv_iload_n hx hb dX2_nails_55 rfl (lv_at hl 2 rfl) ?_
                refine lv_icmp_ne (tgt := 62) hx hb dX2_nails_56 (by decide) (fun c56 => ?_) (fun c56 => ?_)
                · have hu2 : ¬ (!(fFrom fac 3296329728 1148846080 && fFrom num 3296329728 1148846080 && fFrom str 1036831949 1092616192 && !decide (link = w))) = true := by simp [bI_n0.mp c35, bI_n0.mp c43, bI_n0.mp c51, c56]
                  refine lv_aload_n hx hb dX2_nails_62 rfl (lv_at hl 0 rfl) ?_
                  refine g_ki (g_V (As := []) M hR hS (c_X2_allHang l K hA (by first | assumption | rfl) (by assumption)) (lw_V q1149 q1151 qs26 q73 q1152) 0 md_X2_allHang rfl ⟨rfl, rfl⟩ ⟨Nat.le_of_ble_eq_true rfl, Nat.le_of_ble_eq_true rfl⟩ (hR.recv M (tG_0 hA) rfl) rfl hl.1 rfl (lv_room (Nat.le_of_ble_eq_true rfl)) dX2_nails_63 ⟨(by first | exact Nat.le_refl _ | exact Nat.zero_le _ | (dsimp only; omega)), (by first | exact Nat.le_refl _ | exact Nat.zero_le _ | (dsimp only; omega))⟩) hS (fun r63 G63 H locs hp63 hR hS => ?_)
                  obtain ⟨rfl, rfl⟩ := hp63
                  refine lv_bipush (v := (24 : Int32)) hx hb dX2_nails_66 (by decide) ?_
                  refine lv_icmp_eq (tgt := 82) hx hb dX2_nails_68 (by decide) (fun c68 => ?_) (fun c68 => ?_)
                  · have hz : fNr F N p9 w link fac num str = -3 := (if_neg hu).trans ((if_neg hu2).trans (if_pos (Or.inl c68)))
                    refine lv_bipush (v := ((-3) : Int32)) hx hb dX2_nails_82 (by decide) ?_
                    exact g_iret M hr hlk hR hS (by omega) (by omega) dX2_nails_84 (⟨hz.symm, _, rfl, tQ.rf, hF.trans (if_pos (by rw [hz]; decide)).symm⟩)
                  · refine lv_aload_n hx hb dX2_nails_71 rfl (lv_at hl 0 rfl) ?_
                    refine t_get M hA hR 1 (by decide) q1040 rfl rfl dX2_nails_72 ?_
                    refine lv_iconst (v := (1 : Int32)) hx hb dX2_nails_75 (by decide) ?_
                    refine t_aldE M hA ((congrFun hF 1).trans hN) hR (by decide) rfl (by decide) dX2_nails_76 ?_
                    refine lv_bipush (v := (40 : Int32)) hx hb dX2_nails_77 (by decide) ?_
                    refine lv_icmp_ne (tgt := 85) hx hb dX2_nails_79 (by decide) (fun c79 => ?_) (fun c79 => ?_)
                    · have hn40 : ¬ N = 40 := fun z => c79 (by rw [z]; rfl)
                      have hz : fNr F N p9 w link fac num str = nI N := (if_neg hu).trans ((if_neg hu2).trans (if_neg (fun z => z.elim c68 c79)))
                      refine lv_bipush (v := (12 : Int32)) hx hb dX2_nails_85 (by decide) ?_
                      refine lv_bipush (v := (7 : Int32)) hx hb dX2_nails_87 (by decide) ?_
                      refine lv_aload_n hx hb dX2_nails_89 rfl (lv_at hl 0 rfl) ?_
                      refine t_get M hA hR 1 (by decide) q1040 rfl rfl dX2_nails_90 ?_
                      refine lv_iconst (v := (1 : Int32)) hx hb dX2_nails_93 (by decide) ?_
                      refine t_aldE M hA ((congrFun hF 1).trans hN) hR (by decide) rfl (by decide) dX2_nails_94 ?_
                      refine lv_imul hx hb dX2_nails_95 ?_
                      refine lv_iadd hx hb dX2_nails_96 ?_
                      refine g_topi (nI (12 + 7 * N)) (ix_7 N) ?_
                      refine lv_istore (lv' := [(7, _), (0, _), (1, _), (2, _), (3, _), (4, _), (5, _), (6, _)]) hx hb dX2_nails_97 hl (by decide) rfl (fun ls hl => ?_)
                      refine lv_aload_n hx hb dX2_nails_99 rfl (lv_at hl 1 rfl) ?_
                      refine t_get M hA hR 1 (by decide) q1040 rfl rfl dX2_nails_100 ?_
                      refine lv_iload hx hb dX2_nails_103 (lv_at hl 0 rfl) ?_
                      refine lv_iload_n hx hb dX2_nails_105 rfl (lv_at hl 2 rfl) ?_
                      refine t_astQ M hA hR hS 1 (by decide) (by first | assumption | rfl) (12 + 7 * N + 0) rfl (by show _ < 292; omega) dX2_nails_106 (fun V106 H locs hq106 hw106 hR hS => ?_)
                      have hF := hw106
                      refine lv_aload_n hx hb dX2_nails_107 rfl (lv_at hl 1 rfl) ?_
                      refine t_get M hA hR 1 (by decide) q1040 rfl rfl dX2_nails_108 ?_
                      refine lv_iload hx hb dX2_nails_111 (lv_at hl 0 rfl) ?_
                      refine lv_iconst (v := (1 : Int32)) hx hb dX2_nails_113 (by decide) ?_
                      refine lv_iadd hx hb dX2_nails_114 ?_
                      refine lv_iload_n hx hb dX2_nails_115 rfl (lv_at hl 3 rfl) ?_
                      refine t_astQ M hA hR hS 1 (by decide) (by first | assumption | rfl) (12 + 7 * N + 1) (nI_add _ 1) (by show _ < 292; omega) dX2_nails_116 (fun V116 H locs hq116 hw116 hR hS => ?_)
                      have hF := hw116
                      refine lv_aload_n hx hb dX2_nails_117 rfl (lv_at hl 1 rfl) ?_
                      refine t_get M hA hR 1 (by decide) q1040 rfl rfl dX2_nails_118 ?_
                      refine lv_iload hx hb dX2_nails_121 (lv_at hl 0 rfl) ?_
                      refine lv_iconst (v := (2 : Int32)) hx hb dX2_nails_123 (by decide) ?_
                      refine lv_iadd hx hb dX2_nails_124 ?_
                      refine lv_iload_n hx hb dX2_nails_125 rfl (lv_at hl 4 rfl) ?_
                      refine t_astQ M hA hR hS 1 (by decide) (by first | assumption | rfl) (12 + 7 * N + 2) (nI_add _ 2) (by show _ < 292; omega) dX2_nails_126 (fun V126 H locs hq126 hw126 hR hS => ?_)
                      have hF := hw126
                      refine lv_aload_n hx hb dX2_nails_127 rfl (lv_at hl 1 rfl) ?_
                      refine t_get M hA hR 1 (by decide) q1040 rfl rfl dX2_nails_128 ?_
                      refine lv_iload hx hb dX2_nails_131 (lv_at hl 0 rfl) ?_
                      refine lv_iconst (v := (3 : Int32)) hx hb dX2_nails_133 (by decide) ?_
                      refine lv_iadd hx hb dX2_nails_134 ?_
                      refine lv_iload hx hb dX2_nails_135 (lv_at hl 5 rfl) ?_
                      refine t_astQ M hA hR hS 1 (by decide) (by first | assumption | rfl) (12 + 7 * N + 3) (nI_add _ 3) (by show _ < 292; omega) dX2_nails_137 (fun V137 H locs hq137 hw137 hR hS => ?_)
                      have hF := hw137
                      refine lv_aload_n hx hb dX2_nails_138 rfl (lv_at hl 1 rfl) ?_
                      refine t_get M hA hR 1 (by decide) q1040 rfl rfl dX2_nails_139 ?_
                      refine lv_iload hx hb dX2_nails_142 (lv_at hl 0 rfl) ?_
                      refine lv_iconst (v := (4 : Int32)) hx hb dX2_nails_144 (by decide) ?_
                      refine lv_iadd hx hb dX2_nails_145 ?_
                      refine lv_iload hx hb dX2_nails_146 (lv_at hl 6 rfl) ?_
                      refine t_astQ M hA hR hS 1 (by decide) (by first | assumption | rfl) (12 + 7 * N + 4) (nI_add _ 4) (by show _ < 292; omega) dX2_nails_148 (fun V148 H locs hq148 hw148 hR hS => ?_)
                      have hF := hw148
                      refine lv_aload_n hx hb dX2_nails_149 rfl (lv_at hl 1 rfl) ?_
                      refine t_get M hA hR 1 (by decide) q1040 rfl rfl dX2_nails_150 ?_
                      refine lv_iload hx hb dX2_nails_153 (lv_at hl 0 rfl) ?_
                      refine lv_iconst (v := (5 : Int32)) hx hb dX2_nails_155 (by decide) ?_
                      refine lv_iadd hx hb dX2_nails_156 ?_
                      refine lv_iload hx hb dX2_nails_157 (lv_at hl 7 rfl) ?_
                      refine t_astQ M hA hR hS 1 (by decide) (by first | assumption | rfl) (12 + 7 * N + 5) (nI_add _ 5) (by show _ < 292; omega) dX2_nails_159 (fun V159 H locs hq159 hw159 hR hS => ?_)
                      have hF := hw159
                      refine lv_aload_n hx hb dX2_nails_160 rfl (lv_at hl 1 rfl) ?_
                      refine t_get M hA hR 1 (by decide) q1040 rfl rfl dX2_nails_161 ?_
                      refine lv_iload hx hb dX2_nails_164 (lv_at hl 0 rfl) ?_
                      refine lv_bipush (v := (6 : Int32)) hx hb dX2_nails_166 (by decide) ?_
                      refine lv_iadd hx hb dX2_nails_168 ?_
                      refine lv_iconst (v := (1 : Int32)) hx hb dX2_nails_169 (by decide) ?_
                      refine t_astQ M hA hR hS 1 (by decide) (by first | assumption | rfl) (12 + 7 * N + 6) (nI_add _ 6) (by show _ < 292; omega) dX2_nails_170 (fun V170 H locs hq170 hw170 hR hS => ?_)
                      have hF := hw170
                      refine lv_aload_n hx hb dX2_nails_171 rfl (lv_at hl 1 rfl) ?_
                      refine t_get M hA hR 1 (by decide) q1040 rfl rfl dX2_nails_172 ?_
                      refine lv_iconst (v := (1 : Int32)) hx hb dX2_nails_175 (by decide) ?_
                      refine lv_dup2_11 hx hb dX2_nails_176 rfl rfl ?_
                      refine t_aldE M hA ((congrFun hF 1).trans ((up_lo (by omega)).trans ((up_lo (by omega)).trans ((up_lo (by omega)).trans ((up_lo (by omega)).trans ((up_lo (by omega)).trans ((up_lo (by omega)).trans ((up_lo (by omega)).trans (hN))))))))) hR (by decide) rfl (by decide) dX2_nails_177 ?_
                      refine lv_iconst (v := (1 : Int32)) hx hb dX2_nails_178 (by decide) ?_
                      refine lv_iadd hx hb dX2_nails_179 ?_
                      refine g_topi (nI (N + 1)) (nI_1 N) ?_
                      refine t_astQ M hA hR hS 1 (by decide) (by first | assumption | rfl) 1 rfl (by decide) dX2_nails_180 (fun V180 H locs hq180 hw180 hR hS => ?_)
                      have hF := hw180
                      refine lv_aload_n hx hb dX2_nails_181 rfl (lv_at hl 1 rfl) ?_
                      refine t_get M hA hR 1 (by decide) q1040 rfl rfl dX2_nails_182 ?_
                      refine lv_iconst (v := (1 : Int32)) hx hb dX2_nails_185 (by decide) ?_
                      refine t_aldE M hA ((congrFun hF 1).trans up_at) hR (by decide) rfl (by decide) dX2_nails_186 ?_
                      refine lv_iconst (v := (1 : Int32)) hx hb dX2_nails_187 (by decide) ?_
                      refine lv_isub hx hb dX2_nails_188 ?_
                      refine g_topi (nI N) (nI_pred N) ?_
                      exact g_iret M hr hlk hR hS (by omega) (by omega) dX2_nails_189 (⟨hz.symm, _, rfl, (tQ.trans (tQ.trans (tQ.trans (tQ.trans (tQ.trans (tQ.trans (tQ.trans (tQ.trans tQ.rf hq106 (by decide)) hq116 (by decide)) hq126 (by decide)) hq137 (by decide)) hq148 (by decide)) hq159 (by decide)) hq170 (by decide)) hq180 (by decide)), hF.trans (if_neg (by rw [hz]; exact nI_pos (by omega))).symm⟩)
                    · have hz : fNr F N p9 w link fac num str = -3 := (if_neg hu).trans ((if_neg hu2).trans (if_pos (Or.inr c79)))
                      refine lv_bipush (v := ((-3) : Int32)) hx hb dX2_nails_82 (by decide) ?_
                      exact g_iret M hr hlk hR hS (by omega) (by omega) dX2_nails_84 (⟨hz.symm, _, rfl, tQ.rf, hF.trans (if_pos (by rw [hz]; decide)).symm⟩)
                · have hz : fNr F N p9 w link fac num str = -2 := (if_neg hu).trans (if_pos (by simp [c56]))
                  refine lv_bipush (v := ((-2) : Int32)) hx hb dX2_nails_59 (by decide) ?_
                  exact g_iret M hr hlk hR hS (by omega) (by omega) dX2_nails_61 (⟨hz.symm, _, rfl, tQ.rf, hF.trans (if_pos (by rw [hz]; decide)).symm⟩)
        · have hz : fNr F N p9 w link fac num str = -1 := if_pos (by simp [c18, bI_0.mp c25])
          refine lv_iconst (v := ((-1) : Int32)) hx hb dX2_nails_28 (by decide) ?_
          exact g_iret M hr hlk hR hS (by omega) (by omega) dX2_nails_29 (⟨hz.symm, _, rfl, tQ.rf, hF.trans (if_pos (by rw [hz]; decide)).symm⟩)

theorem md_X2_storms : gMd yX2_storms 1 := by
  unfold gMd
  decide +kernel
set_option maxHeartbeats 4000000 in
set_option maxRecDepth 100000 in
theorem c_X2_storms (l : Launch) (K : gK) {G0 : gG} {A : Nat → Nat} {V : tV} {F : Nat → Int32} (hA : tInj A) (hF : V.2.1 1 = F) (f : UInt32) (hf : fN f (10 * fU)) {P N : Nat} (ok : fOk F P N) : Met l yX2_storms (ws_ yX2_storms cX2_storms 4 (Option.some Jvm.ClassFile.FieldType.int)) (gRm 4 0 0 89) (gPre K [.ref (A 0), .float f] (tG K G0 A V)) (gQi K (fun r G1 => r = nI (fSn F N f) ∧ ∃ V1, G1 = tG K G0 A V1 ∧ tQ [1] V V1 ∧ V1.2.1 1 = fSt F N f)) 0 0 (gA K) := by
  refine g_met (by decide) (Nat.le_of_ble_eq_true rfl) ?_
  intro p e s m below meth c M hr hlk hnm hR ls hl
  have M : gM K p s m _ c cX2_storms 4 RX2 := M
  have hx := M.hx
  have hb := M.hb
  have hS : va_S (gA K) s.heap s.heap [] := va_S.rf
  have hl : lv_has ls 4 [(0, .ref (A 0)), (1, .float f)] := hl
  have hF0 := hF
  have hN := ok.hN
  have hN2 := ok.hN2
  refine lv_iconst (v := (0 : Int32)) hx hb dX2_storms_0 (by decide) ?_
  refine lv_istore_n (lv' := [(2, _), (0, _), (1, _)]) hx hb dX2_storms_1 rfl hl (by decide) rfl (fun ls hl => ?_)
  refine g_loop (pc := 2) (fun (k : Nat) (ls : Array Slot) (G : gG) (cells slots : Nat) => ∃ j V1, lv_has ls 4 [(2, .int (nI j)), (1, .float f), (0, .ref (A 0))] ∧ j ≤ N ∧ k = N - j ∧ tQ [1] V V1 ∧ V1.2.1 1 = fS1 F N f j ∧ G = tG K G0 A V1 ∧ cells = 0 ∧ slots = 0) ?_ (N) ⟨0, V, lv_sub hl [0, 2, 1] rfl, by omega, rfl, tQ.rf, hF.trans fW_0.symm, rfl, rfl, rfl⟩ hR hS
  intro k ls G H locs cells slots hI hR hS ih2
  obtain ⟨j, V1, hl, hj, rfl, hs, hF, rfl, rfl, rfl⟩ := hI
  have hN1 : fS1 F N f j 1 = nI N := (fW_lo (by decide)).trans hN
  refine lv_iload_n hx hb dX2_storms_2 rfl (lv_at hl 0 rfl) ?_
  refine lv_aload_n hx hb dX2_storms_3 rfl (lv_at hl 2 rfl) ?_
  refine t_get M hA hR 1 (by decide) q1040 rfl rfl dX2_storms_4 ?_
  refine lv_iconst (v := (1 : Int32)) hx hb dX2_storms_7 (by decide) ?_
  refine t_aldE M hA ((congrFun hF 1).trans hN1) hR (by decide) rfl (by decide) dX2_storms_8 ?_
  refine lv_icmp_ge (tgt := 54) hx hb dX2_storms_9 (by decide) (fun c9 => ?_) (fun c9 => ?_)
  · have h9 : j = N := eq_of_ge c9 hj (by omega)
    rw [h9] at hF
    refine lv_iconst (v := (0 : Int32)) hx hb dX2_storms_54 (by decide) ?_
    refine lv_istore_n (lv' := [(2, _), (1, _), (0, _)]) hx hb dX2_storms_55 rfl hl (by decide) rfl (fun ls hl => ?_)
    refine lv_iconst (v := (0 : Int32)) hx hb dX2_storms_56 (by decide) ?_
    refine lv_istore_n (lv' := [(3, _), (2, _), (1, _), (0, _)]) hx hb dX2_storms_57 rfl hl (by decide) rfl (fun ls hl => ?_)
    refine g_loop (pc := 58) (fun (k : Nat) (ls : Array Slot) (G : gG) (cells slots : Nat) => ∃ j V1, lv_has ls 4 [(3, .int (nI j)), (2, .int (nI (fCnt (fFl (fS1 F N f N)) 0 j))), (0, .ref (A 0))] ∧ j ≤ N ∧ k = N - j ∧ tQ [1] V V1 ∧ V1.2.1 1 = fS2 (fS1 F N f N) j ∧ G = tG K G0 A V1 ∧ cells = 0 ∧ slots = 0) ?_ (N) ⟨0, V1, lv_sub hl [0, 1, 3] rfl, by omega, rfl, (tQ.trans tQ.rf hs (by decide)), hF.trans fW_0.symm, rfl, rfl, rfl⟩ hR hS
    intro k ls G H locs cells slots hI hR hS ih58
    obtain ⟨j, V1, hl, hj, rfl, hs, hF, rfl, rfl, rfl⟩ := hI
    have hN1 : fS2 (fS1 F N f N) j 1 = nI N := (fW_lo (by decide)).trans ((fW_lo (by decide)).trans hN)
    refine lv_iload_n hx hb dX2_storms_58 rfl (lv_at hl 0 rfl) ?_
    refine lv_aload_n hx hb dX2_storms_59 rfl (lv_at hl 2 rfl) ?_
    refine t_get M hA hR 1 (by decide) q1040 rfl rfl dX2_storms_60 ?_
    refine lv_iconst (v := (1 : Int32)) hx hb dX2_storms_63 (by decide) ?_
    refine t_aldE M hA ((congrFun hF 1).trans hN1) hR (by decide) rfl (by decide) dX2_storms_64 ?_
    refine lv_icmp_ge (tgt := 112) hx hb dX2_storms_65 (by decide) (fun c65 => ?_) (fun c65 => ?_)
    · have h9 : j = N := eq_of_ge c65 hj (by omega)
      rw [h9] at hF hl
      refine lv_aload_n hx hb dX2_storms_112 rfl (lv_at hl 2 rfl) ?_
      refine t_get M hA hR 1 (by decide) q1040 rfl rfl dX2_storms_113 ?_
      refine lv_iconst (v := (2 : Int32)) hx hb dX2_storms_116 (by decide) ?_
      refine lv_dup2_11 hx hb dX2_storms_117 rfl rfl ?_
      refine t_aldE M hA ((congrFun hF 2).trans ((fW_lo (by decide)).trans (fW_lo (by decide)))) hR (by decide) rfl (by decide) dX2_storms_118 ?_
      refine lv_iload_n hx hb dX2_storms_119 rfl (lv_at hl 1 rfl) ?_
      refine lv_iadd hx hb dX2_storms_120 ?_
      refine t_astQ M hA hR hS 1 (by decide) (by first | assumption | rfl) 2 rfl (by decide) dX2_storms_121 (fun V121 H locs hq121 hw121 hR hS => ?_)
      have hF := hw121
      refine lv_aload_n hx hb dX2_storms_122 rfl (lv_at hl 2 rfl) ?_
      refine t_get M hA hR 1 (by decide) q1040 rfl rfl dX2_storms_123 ?_
      refine lv_iconst (v := (4 : Int32)) hx hb dX2_storms_126 (by decide) ?_
      refine lv_dup2_11 hx hb dX2_storms_127 rfl rfl ?_
      refine t_aldE M hA ((congrFun hF 4).trans ((up_lo (by decide)).trans ((fW_lo (by decide)).trans (fW_lo (by decide))))) hR (by decide) rfl (by decide) dX2_storms_128 ?_
      refine lv_iconst (v := (1 : Int32)) hx hb dX2_storms_129 (by decide) ?_
      refine lv_iadd hx hb dX2_storms_130 ?_
      refine t_astQ M hA hR hS 1 (by decide) (by first | assumption | rfl) 4 rfl (by decide) dX2_storms_131 (fun V131 H locs hq131 hw131 hR hS => ?_)
      have hF := hw131
      refine lv_iload_n hx hb dX2_storms_132 rfl (lv_at hl 1 rfl) ?_
      exact g_iret M hr hlk hR hS (by omega) (by omega) dX2_storms_133 (⟨rfl, _, rfl, (tQ.trans (tQ.trans (tQ.trans tQ.rf hs (by decide)) hq121 (by decide)) hq131 (by decide)), hF⟩)
    · have hjN := lt_of_not c65 (by omega)
      refine lv_aload_n hx hb dX2_storms_68 rfl (lv_at hl 2 rfl) ?_
      refine lv_iload_n hx hb dX2_storms_69 rfl (lv_at hl 0 rfl) ?_
      refine g_ki (g_V (As := [_]) M hR hS (c_X2_hangs l K hA (by first | assumption | rfl) j (by omega)) (lw_V q1169 q1171 qs29 q73 q1172) 1 md_X2_hangs rfl ⟨rfl, rfl⟩ ⟨Nat.le_of_ble_eq_true rfl, Nat.le_of_ble_eq_true rfl⟩ (hR.recv M (tG_0 hA) rfl) rfl hl.1 rfl (lv_room (Nat.le_of_ble_eq_true rfl)) dX2_storms_70 ⟨(by first | exact Nat.le_refl _ | exact Nat.zero_le _ | (dsimp only; omega)), (by first | exact Nat.le_refl _ | exact Nat.zero_le _ | (dsimp only; omega))⟩) hS (fun r70 G70 H locs hp70 hR hS => ?_)
      obtain ⟨rfl, rfl⟩ := hp70
      refine lv_if_eq (tgt := 106) hx hb dX2_storms_73 (by decide) (fun c73 => ?_) (fun c73 => ?_)
      · rw [s2_hg] at c73
        have hq := fl_h (bI_0.mp c73)
        have hF := hF.trans (fW_n (k := 6) (v := fun _ => 0) hq).symm
        rw [← cnt_0 hq] at hl
        refine g_inc (lv' := [(3, _), (2, _), (0, _)]) M dX2_storms_106 hl (k := 0) rfl (by decide) rfl (fun ls hl => ?_)
        refine lv_goto (tgt := 58) hx hb dX2_storms_109 (by decide) ?_
        exact ih58 (N - (j + 1)) _ _ _ _ _ _ (by omega) ⟨j + 1, _, lv_sub hl [0, 1, 2] rfl, by omega, rfl, (tQ.trans tQ.rf hs (by decide)), hF, rfl, rfl, rfl⟩ hR hS
      · rw [s2_hg] at c73
        have hh := bI_n0.mp c73
        have e5 : fo (fS2 (fS1 F N f N) j) j 5 = fo (fS1 F N f N) j 5 := s2_fo (by decide) (Or.inl (by decide))
        refine lv_aload_n hx hb dX2_storms_76 rfl (lv_at hl 2 rfl) ?_
        refine lv_iload_n hx hb dX2_storms_77 rfl (lv_at hl 0 rfl) ?_
        refine lv_iconst (v := (5 : Int32)) hx hb dX2_storms_78 (by decide) ?_
        refine g_kf (g_V (As := [_, _]) M hR hS (c_X2_realOf l K hA (by first | assumption | rfl) j 5 (by omega) (by rw [e5]; exact fRe_B (s1_B (f := f) (j := N) ok hf hjN))) (lw_V q1185 q1187 qs32 q73 q1188) 2 md_X2_realOf rfl ⟨rfl, rfl⟩ ⟨Nat.le_of_ble_eq_true rfl, Nat.le_of_ble_eq_true rfl⟩ (hR.recv M (tG_0 hA) rfl) rfl hl.1 rfl (lv_room (Nat.le_of_ble_eq_true rfl)) dX2_storms_79 ⟨(by first | exact Nat.le_refl _ | exact Nat.zero_le _ | (dsimp only; omega)), (by first | exact Nat.le_refl _ | exact Nat.zero_le _ | (dsimp only; omega))⟩) hS (fun r79 G79 H locs hp79 hR hS => ?_)
        obtain ⟨rfl, rfl⟩ := hp79
        refine g_topf (fSg (fS1 F N f N) j) (by unfold fSg; rw [e5]) ?_
        refine lv_fconst0 hx hb dX2_storms_82 ?_
        refine lv_fcmp hx hb dX2_storms_83 ?_
        refine lv_if_gt (tgt := 106) hx hb dX2_storms_84 (by decide) (fun c84 => ?_) (fun c84 => ?_)
        · have hq := fl_f c84
          have hF := hF.trans (fW_n (k := 6) (v := fun _ => 0) hq).symm
          rw [← cnt_0 hq] at hl
          refine g_inc (lv' := [(3, _), (2, _), (0, _)]) M dX2_storms_106 hl (k := 0) rfl (by decide) rfl (fun ls hl => ?_)
          refine lv_goto (tgt := 58) hx hb dX2_storms_109 (by decide) ?_
          exact ih58 (N - (j + 1)) _ _ _ _ _ _ (by omega) ⟨j + 1, _, lv_sub hl [0, 1, 2] rfl, by omega, rfl, (tQ.trans tQ.rf hs (by decide)), hF, rfl, rfl, rfl⟩ hR hS
        · refine lv_aload_n hx hb dX2_storms_87 rfl (lv_at hl 2 rfl) ?_
          refine t_get M hA hR 1 (by decide) q1040 rfl rfl dX2_storms_88 ?_
          refine lv_bipush (v := (12 : Int32)) hx hb dX2_storms_91 (by decide) ?_
          refine lv_bipush (v := (7 : Int32)) hx hb dX2_storms_93 (by decide) ?_
          refine lv_iload_n hx hb dX2_storms_95 rfl (lv_at hl 0 rfl) ?_
          refine lv_imul hx hb dX2_storms_96 ?_
          refine lv_iadd hx hb dX2_storms_97 ?_
          refine lv_bipush (v := (6 : Int32)) hx hb dX2_storms_98 (by decide) ?_
          refine lv_iadd hx hb dX2_storms_100 ?_
          refine lv_iconst (v := (0 : Int32)) hx hb dX2_storms_101 (by decide) ?_
          refine t_astQ M hA hR hS 1 (by decide) (by first | assumption | rfl) (12 + 7 * j + 6) (ix_o j 6) (by show _ < 292; omega) dX2_storms_102 (fun V102 H locs hq102 hw102 hR hS => ?_)
          have hF := hw102
          refine g_inc (lv' := [(2, _), (3, _), (0, _)]) M dX2_storms_103 hl (k := 1) rfl (by decide) rfl (fun ls hl => ?_)
          have hq := fl_t hh c84
          have hF := hF.trans (fW_t (v := fun _ => 0) (by decide) hq).symm
          rw [← cnt_1 hq] at hl
          refine g_inc (lv' := [(3, _), (2, _), (0, _)]) M dX2_storms_106 hl (k := 1) rfl (by decide) rfl (fun ls hl => ?_)
          refine lv_goto (tgt := 58) hx hb dX2_storms_109 (by decide) ?_
          exact ih58 (N - (j + 1)) _ _ _ _ _ _ (by omega) ⟨j + 1, _, lv_sub hl [0, 1, 2] rfl, by omega, rfl, (tQ.trans (tQ.trans tQ.rf hs (by decide)) hq102 (by decide)), hF, rfl, rfl, rfl⟩ hR hS
  · have hjN := lt_of_not c9 (by omega)
    refine lv_aload_n hx hb dX2_storms_12 rfl (lv_at hl 2 rfl) ?_
    refine lv_iload_n hx hb dX2_storms_13 rfl (lv_at hl 0 rfl) ?_
    refine g_ki (g_V (As := [_]) M hR hS (c_X2_hangs l K hA (by first | assumption | rfl) j (by omega)) (lw_V q1169 q1171 qs29 q73 q1172) 1 md_X2_hangs rfl ⟨rfl, rfl⟩ ⟨Nat.le_of_ble_eq_true rfl, Nat.le_of_ble_eq_true rfl⟩ (hR.recv M (tG_0 hA) rfl) rfl hl.1 rfl (lv_room (Nat.le_of_ble_eq_true rfl)) dX2_storms_14 ⟨(by first | exact Nat.le_refl _ | exact Nat.zero_le _ | (dsimp only; omega)), (by first | exact Nat.le_refl _ | exact Nat.zero_le _ | (dsimp only; omega))⟩) hS (fun r14 G14 H locs hp14 hR hS => ?_)
    obtain ⟨rfl, rfl⟩ := hp14
    refine lv_if_eq (tgt := 48) hx hb dX2_storms_17 (by decide) (fun c17 => ?_) (fun c17 => ?_)
    · have hF := hF.trans (fW_n (k := 5) (v := fBlw F N f) (bI_0.mp (by rw [s1_hg] at c17; exact c17))).symm
      refine g_inc (lv' := [(2, _), (1, _), (0, _)]) M dX2_storms_48 hl (k := 0) rfl (by decide) rfl (fun ls hl => ?_)
      refine lv_goto (tgt := 2) hx hb dX2_storms_51 (by decide) ?_
      exact ih2 (N - (j + 1)) _ _ _ _ _ _ (by omega) ⟨j + 1, _, lv_sub hl [0, 1, 2] rfl, by omega, rfl, (tQ.trans tQ.rf hs (by decide)), hF, rfl, rfl, rfl⟩ hR hS
    · rw [s1_hg] at c17
      have hh := bI_n0.mp c17
      obtain ⟨n1, n2, n3⟩ := blw_ok ok hf hjN hh
      refine lv_aload_n hx hb dX2_storms_20 rfl (lv_at hl 2 rfl) ?_
      refine lv_aload_n hx hb dX2_storms_21 rfl (lv_at hl 2 rfl) ?_
      refine lv_iload_n hx hb dX2_storms_22 rfl (lv_at hl 0 rfl) ?_
      refine lv_iconst (v := (1 : Int32)) hx hb dX2_storms_23 (by decide) ?_
      refine g_ki (g_V (As := [_, _]) M hR hS (c_X2_of l K hA (by first | assumption | rfl) j 1 (by omega)) (lw_V q1153 q1155 qs27 q73 q1156) 2 md_X2_of rfl ⟨rfl, rfl⟩ ⟨Nat.le_of_ble_eq_true rfl, Nat.le_of_ble_eq_true rfl⟩ (hR.recv M (tG_0 hA) rfl) rfl hl.1 rfl (lv_room (Nat.le_of_ble_eq_true rfl)) dX2_storms_24 ⟨(by first | exact Nat.le_refl _ | exact Nat.zero_le _ | (dsimp only; omega)), (by first | exact Nat.le_refl _ | exact Nat.zero_le _ | (dsimp only; omega))⟩) hS (fun r24 G24 H locs hp24 hR hS => ?_)
      obtain ⟨rfl, rfl⟩ := hp24
      refine lv_iload_n hx hb dX2_storms_27 rfl (lv_at hl 0 rfl) ?_
      refine g_ki (g_V (As := [_, _]) M hR hS (c_X2_many l K hA (by first | assumption | rfl) _ j hN1 hN2 (by omega)) (lw_V q1173 q1175 qs30 q73 q1176) 2 md_X2_many rfl ⟨rfl, rfl⟩ ⟨Nat.le_of_ble_eq_true rfl, Nat.le_of_ble_eq_true rfl⟩ (hR.recv M (tG_0 hA) rfl) rfl hl.1 rfl (lv_room (Nat.le_of_ble_eq_true rfl)) dX2_storms_28 ⟨(by first | exact Nat.le_refl _ | exact Nat.zero_le _ | (dsimp only; omega)), (by first | exact Nat.le_refl _ | exact Nat.zero_le _ | (dsimp only; omega))⟩) hS (fun r28 G28 H locs hp28 hR hS => ?_)
      obtain ⟨rfl, rfl⟩ := hp28
      refine g_topi (nI (fCnt (fHf F (fo F j 1)) j (N - j))) (by rw [s1_hf, s1_fo (by decide) (Or.inl (by decide))]) ?_
      refine lv_i2f hx hb dX2_storms_31 ?_
      refine lv_fstore_n (lv' := [(3, _), (2, _), (1, _), (0, _)]) hx hb dX2_storms_32 rfl hl (by decide) rfl (fun ls hl => ?_)
      refine lv_aload_n hx hb dX2_storms_33 rfl (lv_at hl 3 rfl) ?_
      refine lv_iload_n hx hb dX2_storms_34 rfl (lv_at hl 1 rfl) ?_
      refine lv_aload_n hx hb dX2_storms_35 rfl (lv_at hl 3 rfl) ?_
      refine lv_iload_n hx hb dX2_storms_36 rfl (lv_at hl 1 rfl) ?_
      refine lv_iconst (v := (5 : Int32)) hx hb dX2_storms_37 (by decide) ?_
      refine g_kf (g_V (As := [_, _]) M hR hS (c_X2_realOf l K hA (by first | assumption | rfl) j 5 (by omega) (by rw [s1_fo (by decide) (Or.inr (Nat.le_refl _))]; exact ok.re5 hjN)) (lw_V q1185 q1187 qs32 q73 q1188) 2 md_X2_realOf rfl ⟨rfl, rfl⟩ ⟨Nat.le_of_ble_eq_true rfl, Nat.le_of_ble_eq_true rfl⟩ (hR.recv M (tG_0 hA) rfl) rfl hl.1 rfl (lv_room (Nat.le_of_ble_eq_true rfl)) dX2_storms_38 ⟨(by first | exact Nat.le_refl _ | exact Nat.zero_le _ | (dsimp only; omega)), (by first | exact Nat.le_refl _ | exact Nat.zero_le _ | (dsimp only; omega))⟩) hS (fun r38 G38 H locs hp38 hR hS => ?_)
      obtain ⟨rfl, rfl⟩ := hp38
      refine g_topf (fSg F j) (by unfold fSg; rw [s1_fo (by decide) (Or.inr (Nat.le_refl _))]) ?_
      refine lv_fload_n hx hb dX2_storms_41 rfl (lv_at hl 2 rfl) ?_
      refine lv_fload_n hx hb dX2_storms_42 rfl (lv_at hl 0 rfl) ?_
      refine lv_fdiv hx hb dX2_storms_43 n1 ?_
      refine lv_fsub hx hb dX2_storms_44 n2 ?_
      refine g_kv (g_V (As := [_, _]) M hR hS (c_X2_beStrong l K hA (by first | assumption | rfl) j _ (by omega)) (lw_V q1190 q1192 qs33 q73 q1193) 2 md_X2_beStrong rfl ⟨rfl, rfl⟩ ⟨Nat.le_of_ble_eq_true rfl, Nat.le_of_ble_eq_true rfl⟩ (hR.recv M (tG_0 hA) rfl) rfl hl.1 rfl (lv_room (Nat.le_of_ble_eq_true rfl)) dX2_storms_45 ⟨(by first | exact Nat.le_refl _ | exact Nat.zero_le _ | (dsimp only; omega)), (by first | exact Nat.le_refl _ | exact Nat.zero_le _ | (dsimp only; omega))⟩) hS (fun G45 H locs hp45 hR hS => ?_)
      obtain ⟨V45, rfl, hs45, hF⟩ := hp45
      have hF := hF.trans (fW_t (v := fBlw F N f) (by decide) hh).symm
      refine g_inc (lv' := [(2, _), (3, _), (1, _), (0, _)]) M dX2_storms_48 hl (k := 1) rfl (by decide) rfl (fun ls hl => ?_)
      refine lv_goto (tgt := 2) hx hb dX2_storms_51 (by decide) ?_
      exact ih2 (N - (j + 1)) _ _ _ _ _ _ (by omega) ⟨j + 1, _, lv_sub hl [0, 2, 3] rfl, by omega, rfl, (tQ.trans (tQ.trans tQ.rf hs (by decide)) hs45 (by decide)), hF, rfl, rfl, rfl⟩ hR hS
