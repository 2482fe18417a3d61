/-! THE REFERENCE: operations that tell (rows printed by tools/p25.py) -/
theorem md_X2_value : gMd yX2_value 1 := by
  unfold gMd
  decide +kernel
set_option maxHeartbeats 4000000 in
set_option maxRecDepth 100000 in
theorem c_X2_value (l : Launch) (K : gK) {G0 : gG} {A : Nat → Nat} {V : tV} {F : Nat → Int32} (hA : tInj A) (hF : V.2.1 1 = F) (w : Int32) {P N : Nat} (ok : fOk F P N) : Met l yX2_value (ws_ yX2_value cX2_value 3 (Option.some Jvm.ClassFile.FieldType.float)) (gRm 6 0 0 135) (gPre K [.ref (A 0), .int w] (tG K G0 A V)) (gQf K (fun r G1 => r = oF (zVal F N w) ∧ ∃ V1, G1 = tG K G0 A V1 ∧ tRes V V1 F)) 0 0 (gA K) := by
  refine g_met (by decide) (Nat.le_of_ble_eq_true rfl) ?_
  intro p e s m below meth c M hr hlk hnm hR ls hl
  have M : gM K p s m _ c cX2_value 3 RX2 := M
  have hx := M.hx
  have hb := M.hb
  have hS : va_S (gA K) s.heap s.heap [] := va_S.rf
  have hl : lv_has ls 3 [(0, .ref (A 0)), (1, .int w)] := hl
  have hF0 := hF
  have hN := ok.hN
  have hN2 := ok.hN2
  refine lv_aload_n hx hb dX2_value_0 rfl (lv_at hl 0 rfl) ?_
  refine lv_iconst (v := (0 : Int32)) hx hb dX2_value_1 (by decide) ?_
  refine t_putQ M hA hR hS 0 (by decide) q1039 ⟨rfl, rfl⟩ rfl rfl dX2_value_2 (fun V2 H locs hq2 hw2 hz2 hR hS => ?_)
  have hF := hq2.row hF (by decide)
  refine lv_iload_n hx hb dX2_value_5 rfl (lv_at hl 1 rfl) ?_
  refine g_ki (g_S (As := [_]) M hR hS (c_X2_isWord l K _) (lw_S q1136 q1137 q73 q1138) 1 md_X2_isWord ⟨rfl, rfl⟩ ⟨Nat.le_of_ble_eq_true rfl, Nat.le_of_ble_eq_true rfl⟩ rfl hl.1 rfl (lv_room (Nat.le_of_ble_eq_true rfl)) dX2_value_6 ⟨(by first | exact Nat.le_refl _ | exact Nat.zero_le _ | (dsimp only; omega)), (by first | exact Nat.le_refl _ | exact Nat.zero_le _ | (dsimp only; omega))⟩) hS (fun r6 G6 H locs hp6 hR hS => ?_)
  obtain ⟨rfl, e0⟩ := hp6
  rw [e0] at hR
  refine lv_if_ne (tgt := 15) hx hb dX2_value_9 (by decide) (fun c9 => ?_) (fun c9 => ?_)
  · have hu : zVal F N w = fVl F N 17 w := if_neg (by rw [bI_n0.mp c9]; decide)
    refine lv_aload_n hx hb dX2_value_15 rfl (lv_at hl 0 rfl) ?_
    refine lv_iload_n hx hb dX2_value_16 rfl (lv_at hl 1 rfl) ?_
    refine g_kf (g_V (As := [_]) M hR hS (c_X2_valueBy l K hA (by first | assumption | rfl) _ (by assumption)) (lw_V q1266 q1268 qs43 q73 q1269) 1 md_X2_valueBy rfl ⟨rfl, rfl⟩ ⟨Nat.le_of_ble_eq_true rfl, Nat.le_of_ble_eq_true rfl⟩ (hR.recv M (tG_0 hA) rfl) rfl hl.1 rfl (lv_room (Nat.le_of_ble_eq_true rfl)) dX2_value_17 ⟨(by first | exact Nat.le_refl _ | exact Nat.zero_le _ | (dsimp only; omega)), (by first | exact Nat.le_refl _ | exact Nat.zero_le _ | (dsimp only; omega))⟩) hS (fun r17 G17 H locs hp17 hR hS => ?_)
    obtain ⟨V17, rfl, hs17, hh17, hv17, hb17⟩ := hp17
    have hF := hs17.row hF (by decide)
    refine lv_fstore_n (lv' := [(2, _), (0, _), (1, _)]) hx hb dX2_value_20 rfl hl (by decide) rfl (fun ls hl => ?_)
    refine lv_aload_n hx hb dX2_value_21 rfl (lv_at hl 1 rfl) ?_
    refine t_getE M hA hR 10 (by decide) (hh17) q1049 rfl dX2_value_22 ?_
    refine lv_if_eq (tgt := 32) hx hb dX2_value_25 (by decide) (fun c25 => ?_) (fun c25 => ?_)
    · refine lv_ldcf hx hb M.hown (M.hts _ q1265) dX2_value_32 ?_
      exact g_fret M hr hlk hR hS (by omega) (by omega) dX2_value_34 (⟨by rw [hu, isN c25]; rfl, _, rfl, (tQ.trans (tQ.trans tQ.rf hq2 (by decide)) hs17 (by decide)), hF⟩)
    · refine lv_fload_n hx hb dX2_value_28 rfl (lv_at hl 0 rfl) ?_
      refine lv_goto (tgt := 34) hx hb dX2_value_29 (by decide) ?_
      exact g_fret M hr hlk hR hS (by omega) (by omega) dX2_value_34 (⟨by rw [hu]; obtain ⟨v, hv⟩ := isS c25; rw [hv, hv17 v hv]; rfl, _, rfl, (tQ.trans (tQ.trans tQ.rf hq2 (by decide)) hs17 (by decide)), hF⟩)
  · have hz : zVal F N w = none := if_pos (bI_0.mp c9)
    refine lv_ldcf hx hb M.hown (M.hts _ q1265) dX2_value_12 ?_
    exact g_fret M hr hlk hR hS (by omega) (by omega) dX2_value_14 (⟨by rw [hz]; rfl, _, rfl, (tQ.trans tQ.rf hq2 (by decide)), hF⟩)

theorem md_X2_valueOf : gMd yX2_valueOf 1 := by
  unfold gMd
  decide +kernel
set_option maxHeartbeats 4000000 in
set_option maxRecDepth 100000 in
theorem c_X2_valueOf (l : Launch) (K : gK) {G0 : gG} {A : Nat → Nat} {V : tV} {F : Nat → Int32} (hA : tInj A) (hF : V.2.1 1 = F) (o : Int32) {P N : Nat} (ok : fOk F P N) : Met l yX2_valueOf (ws_ yX2_valueOf cX2_valueOf 3 (Option.some Jvm.ClassFile.FieldType.float)) (gRm 7 0 0 157) (gPre K [.ref (A 0), .int o] (tG K G0 A V)) (gQf K (fun r G1 => r = oF (zVof F N o) ∧ ∃ V1, G1 = tG K G0 A V1 ∧ tRes V V1 F)) 0 0 (gA K) := by
  refine g_met (by decide) (Nat.le_of_ble_eq_true rfl) ?_
  intro p e s m below meth c M hr hlk hnm hR ls hl
  have M : gM K p s m _ c cX2_valueOf 3 RX2 := M
  have hx := M.hx
  have hb := M.hb
  have hS : va_S (gA K) s.heap s.heap [] := va_S.rf
  have hl : lv_has ls 3 [(0, .ref (A 0)), (1, .int o)] := hl
  have hF0 := hF
  have hN := ok.hN
  have hN2 := ok.hN2
  refine lv_aload_n hx hb dX2_valueOf_0 rfl (lv_at hl 0 rfl) ?_
  refine lv_iconst (v := (0 : Int32)) hx hb dX2_valueOf_1 (by decide) ?_
  refine t_putQ M hA hR hS 0 (by decide) q1039 ⟨rfl, rfl⟩ rfl rfl dX2_valueOf_2 (fun V2 H locs hq2 hw2 hz2 hR hS => ?_)
  have hF := hq2.row hF (by decide)
  refine lv_aload_n hx hb dX2_valueOf_5 rfl (lv_at hl 0 rfl) ?_
  refine lv_iload_n hx hb dX2_valueOf_6 rfl (lv_at hl 1 rfl) ?_
  refine g_ki (g_V (As := [_]) M hR hS (c_X2_isOrder l K hA (by first | assumption | rfl) _) (lw_V q1165 q1167 qs28 q73 q1168) 1 md_X2_isOrder rfl ⟨rfl, rfl⟩ ⟨Nat.le_of_ble_eq_true rfl, Nat.le_of_ble_eq_true rfl⟩ (hR.recv M (tG_0 hA) rfl) rfl hl.1 rfl (lv_room (Nat.le_of_ble_eq_true rfl)) dX2_valueOf_7 ⟨(by first | exact Nat.le_refl _ | exact Nat.zero_le _ | (dsimp only; omega)), (by first | exact Nat.le_refl _ | exact Nat.zero_le _ | (dsimp only; omega))⟩) hS (fun r7 G7 H locs hp7 hR hS => ?_)
  obtain ⟨rfl, rfl⟩ := hp7
  refine lv_if_ne (tgt := 16) hx hb dX2_valueOf_10 (by decide) (fun c10 => ?_) (fun c10 => ?_)
  · have ho1 := bI_n0.mp c10
    obtain ⟨o9, ho9, rfl⟩ := fIn_nI (by rw [← hN]; exact ho1) (by omega)
    have hzo : zN (nI o9) = o9 := zN_k ho9 hN2
    have hu : zVof F N (nI o9) = fVo F N 17 o9 := (if_neg (by rw [ho1]; decide)).trans (by rw [hzo])
    refine lv_aload_n hx hb dX2_valueOf_16 rfl (lv_at hl 0 rfl) ?_
    refine lv_iload_n hx hb dX2_valueOf_17 rfl (lv_at hl 1 rfl) ?_
    refine g_kf (g_V (As := [_]) M hR hS (c_X2_valueOfOrder l K hA (by first | assumption | rfl) o9 ok ho9) (lw_V q1292 q1294 qs48 q73 q1295) 1 md_X2_valueOfOrder rfl ⟨rfl, rfl⟩ ⟨Nat.le_of_ble_eq_true rfl, Nat.le_of_ble_eq_true rfl⟩ (hR.recv M (tG_0 hA) rfl) rfl hl.1 rfl (lv_room (Nat.le_of_ble_eq_true rfl)) dX2_valueOf_18 ⟨(by first | exact Nat.le_refl _ | exact Nat.zero_le _ | (dsimp only; omega)), (by first | exact Nat.le_refl _ | exact Nat.zero_le _ | (dsimp only; omega))⟩) hS (fun r18 G18 H locs hp18 hR hS => ?_)
    obtain ⟨V18, rfl, hs18, hh18, hv18, hb18⟩ := hp18
    have hF := hs18.row hF (by decide)
    refine lv_fstore_n (lv' := [(2, _), (0, _), (1, _)]) hx hb dX2_valueOf_21 rfl hl (by decide) rfl (fun ls hl => ?_)
    refine lv_aload_n hx hb dX2_valueOf_22 rfl (lv_at hl 1 rfl) ?_
    refine t_getE M hA hR 10 (by decide) (hh18) q1049 rfl dX2_valueOf_23 ?_
    refine lv_if_eq (tgt := 33) hx hb dX2_valueOf_26 (by decide) (fun c26 => ?_) (fun c26 => ?_)
    · refine lv_ldcf hx hb M.hown (M.hts _ q1265) dX2_valueOf_33 ?_
      exact g_fret M hr hlk hR hS (by omega) (by omega) dX2_valueOf_35 (⟨by rw [hu, isN c26]; rfl, _, rfl, (tQ.trans (tQ.trans tQ.rf hq2 (by decide)) hs18 (by decide)), hF⟩)
    · refine lv_fload_n hx hb dX2_valueOf_29 rfl (lv_at hl 0 rfl) ?_
      refine lv_goto (tgt := 35) hx hb dX2_valueOf_30 (by decide) ?_
      exact g_fret M hr hlk hR hS (by omega) (by omega) dX2_valueOf_35 (⟨by rw [hu]; obtain ⟨v, hv⟩ := isS c26; rw [hv, hv18 v hv]; rfl, _, rfl, (tQ.trans (tQ.trans tQ.rf hq2 (by decide)) hs18 (by decide)), hF⟩)
  · have hz : zVof F N o = none := if_pos (bI_0.mp c10)
    refine lv_ldcf hx hb M.hown (M.hts _ q1265) dX2_valueOf_13 ?_
    exact g_fret M hr hlk hR hS (by omega) (by omega) dX2_valueOf_15 (⟨by rw [hz]; rfl, _, rfl, (tQ.trans tQ.rf hq2 (by decide)), hF⟩)

theorem md_X2_word : gMd yX2_word 2 := by
  unfold gMd
  decide +kernel
set_option maxHeartbeats 4000000 in
set_option maxRecDepth 100000 in
theorem c_X2_word (l : Launch) (K : gK) {G0 : gG} {A : Nat → Nat} {V : tV} {F : Nat → Int32} (hA : tInj A) (hF : V.2.1 1 = F) (w what : Int32) {P N : Nat} (ok : fOk F P N) : Met l yX2_word (ws_ yX2_word cX2_word 3 (Option.some Jvm.ClassFile.FieldType.int)) (gRm 8 0 0 183) (gPre K [.ref (A 0), .int w, .int what] (tG K G0 A V)) (gQi K (fun r G1 => r = zWrd F N w what ∧ ∃ V1, G1 = tG K G0 A V1 ∧ tRes V V1 F)) 0 0 (gA K) := by
  refine g_met (by decide) (Nat.le_of_ble_eq_true rfl) ?_
  intro p e s m below meth c M hr hlk hnm hR ls hl
  have M : gM K p s m _ c cX2_word 3 RX2 := M
  have hx := M.hx
  have hb := M.hb
  have hS : va_S (gA K) s.heap s.heap [] := va_S.rf
  have hl : lv_has ls 3 [(0, .ref (A 0)), (1, .int w), (2, .int what)] := hl
  have hF0 := hF
  have hN := ok.hN
  have hN2 := ok.hN2
  refine lv_aload_n hx hb dX2_word_0 rfl (lv_at hl 0 rfl) ?_
  refine lv_iconst (v := (0 : Int32)) hx hb dX2_word_1 (by decide) ?_
  refine t_putQ M hA hR hS 0 (by decide) q1039 ⟨rfl, rfl⟩ rfl rfl dX2_word_2 (fun V2 H locs hq2 hw2 hz2 hR hS => ?_)
  have hF := hq2.row hF (by decide)
  refine lv_iload_n hx hb dX2_word_5 rfl (lv_at hl 1 rfl) ?_
  refine g_ki (g_S (As := [_]) M hR hS (c_X2_isWord l K _) (lw_S q1136 q1137 q73 q1138) 1 md_X2_isWord ⟨rfl, rfl⟩ ⟨Nat.le_of_ble_eq_true rfl, Nat.le_of_ble_eq_true rfl⟩ rfl hl.1 rfl (lv_room (Nat.le_of_ble_eq_true rfl)) dX2_word_6 ⟨(by first | exact Nat.le_refl _ | exact Nat.zero_le _ | (dsimp only; omega)), (by first | exact Nat.le_refl _ | exact Nat.zero_le _ | (dsimp only; omega))⟩) hS (fun r6 G6 H locs hp6 hR hS => ?_)
  obtain ⟨rfl, e0⟩ := hp6
  rw [e0] at hR
  refine lv_if_ne (tgt := 14) hx hb dX2_word_9 (by decide) (fun c9 => ?_) (fun c9 => ?_)
  · have hw1 : ¬ fIn w 0 15 = false := by rw [bI_n0.mp c9]; decide
    refine lv_iload_n hx hb dX2_word_14 rfl (lv_at hl 2 rfl) ?_
    by_cases t15_0 : what = 0
    · refine lv_tableIn (off := 41) (tgt := 56) hx hb dX2_word_15 (by rw [t15_0]; decide) (by rw [t15_0]; decide) (by rw [t15_0]; decide) (by decide) ?_
      have hz : zWrd F N w what = oI (fRul F w N) := (if_neg hw1).trans ((if_pos t15_0).trans (rfl))
      refine lv_aload_n hx hb dX2_word_56 rfl (lv_at hl 0 rfl) ?_
      refine lv_iload_n hx hb dX2_word_57 rfl (lv_at hl 1 rfl) ?_
      refine g_ki (g_V (As := [_]) M hR hS (c_X2_ruling l K hA (by first | assumption | rfl) _ (by assumption)) (lw_V q1274 q1276 qs45 q73 q1277) 1 md_X2_ruling rfl ⟨rfl, rfl⟩ ⟨Nat.le_of_ble_eq_true rfl, Nat.le_of_ble_eq_true rfl⟩ (hR.recv M (tG_0 hA) rfl) rfl hl.1 rfl (lv_room (Nat.le_of_ble_eq_true rfl)) dX2_word_58 ⟨(by first | exact Nat.le_refl _ | exact Nat.zero_le _ | (dsimp only; omega)), (by first | exact Nat.le_refl _ | exact Nat.zero_le _ | (dsimp only; omega))⟩) hS (fun r58 G58 H locs hp58 hR hS => ?_)
      obtain ⟨rfl, rfl⟩ := hp58
      exact g_iret M hr hlk hR hS (by omega) (by omega) dX2_word_61 (⟨hz.symm, _, rfl, (tQ.trans tQ.rf hq2 (by decide)), hF⟩)
    by_cases t15_1 : what = 1
    · refine lv_tableIn (off := 47) (tgt := 62) hx hb dX2_word_15 (by rw [t15_1]; decide) (by rw [t15_1]; decide) (by rw [t15_1]; decide) (by decide) ?_
      have hz : zWrd F N w what = oI (fTop F w N) := (if_neg hw1).trans ((if_neg t15_0).trans ((if_pos t15_1).trans (rfl)))
      refine lv_aload_n hx hb dX2_word_62 rfl (lv_at hl 0 rfl) ?_
      refine lv_iload_n hx hb dX2_word_63 rfl (lv_at hl 1 rfl) ?_
      refine g_ki (g_V (As := [_]) M hR hS (c_X2_top l K hA (by first | assumption | rfl) _ (by assumption)) (lw_V q1300 q1302 qs49 q73 q1303) 1 md_X2_top rfl ⟨rfl, rfl⟩ ⟨Nat.le_of_ble_eq_true rfl, Nat.le_of_ble_eq_true rfl⟩ (hR.recv M (tG_0 hA) rfl) rfl hl.1 rfl (lv_room (Nat.le_of_ble_eq_true rfl)) dX2_word_64 ⟨(by first | exact Nat.le_refl _ | exact Nat.zero_le _ | (dsimp only; omega)), (by first | exact Nat.le_refl _ | exact Nat.zero_le _ | (dsimp only; omega))⟩) hS (fun r64 G64 H locs hp64 hR hS => ?_)
      obtain ⟨rfl, rfl⟩ := hp64
      exact g_iret M hr hlk hR hS (by omega) (by omega) dX2_word_67 (⟨hz.symm, _, rfl, (tQ.trans tQ.rf hq2 (by decide)), hF⟩)
    by_cases t15_2 : what = 2
    · refine lv_tableIn (off := 53) (tgt := 68) hx hb dX2_word_15 (by rw [t15_2]; decide) (by rw [t15_2]; decide) (by rw [t15_2]; decide) (by decide) ?_
      have hz : zWrd F N w what = nI (fCnt (fHf F w) 0 N) := (if_neg hw1).trans ((if_neg t15_0).trans ((if_neg t15_1).trans ((if_pos t15_2).trans (rfl))))
      refine lv_aload_n hx hb dX2_word_68 rfl (lv_at hl 0 rfl) ?_
      refine lv_iload_n hx hb dX2_word_69 rfl (lv_at hl 1 rfl) ?_
      refine lv_iconst (v := (0 : Int32)) hx hb dX2_word_70 (by decide) ?_
      refine g_ki (g_V (As := [_, _]) M hR hS (c_X2_many l K hA (by first | assumption | rfl) w 0 hN hN2 (by omega)) (lw_V q1173 q1175 qs30 q73 q1176) 2 md_X2_many rfl ⟨rfl, rfl⟩ ⟨Nat.le_of_ble_eq_true rfl, Nat.le_of_ble_eq_true rfl⟩ (hR.recv M (tG_0 hA) rfl) rfl hl.1 rfl (lv_room (Nat.le_of_ble_eq_true rfl)) dX2_word_71 ⟨(by first | exact Nat.le_refl _ | exact Nat.zero_le _ | (dsimp only; omega)), (by first | exact Nat.le_refl _ | exact Nat.zero_le _ | (dsimp only; omega))⟩) hS (fun r71 G71 H locs hp71 hR hS => ?_)
      obtain ⟨rfl, rfl⟩ := hp71
      exact g_iret M hr hlk hR hS (by omega) (by omega) dX2_word_74 (⟨hz.symm, _, rfl, (tQ.trans tQ.rf hq2 (by decide)), hF⟩)
    by_cases t15_3 : what = 3
    · refine lv_tableIn (off := 60) (tgt := 75) hx hb dX2_word_15 (by rw [t15_3]; decide) (by rw [t15_3]; decide) (by rw [t15_3]; decide) (by decide) ?_
      have hz : zWrd F N w what = bI (fVl F N 17 w).isSome := (if_neg hw1).trans ((if_neg t15_0).trans ((if_neg t15_1).trans ((if_neg t15_2).trans ((if_pos t15_3).trans (rfl)))))
      refine lv_aload_n hx hb dX2_word_75 rfl (lv_at hl 0 rfl) ?_
      refine lv_iload_n hx hb dX2_word_76 rfl (lv_at hl 1 rfl) ?_
      refine g_ki (g_V (As := [_]) M hR hS (c_X2_hasValue l K hA (by first | assumption | rfl) _ (by assumption)) (lw_V q1304 q1306 qs50 q73 q1307) 1 md_X2_hasValue rfl ⟨rfl, rfl⟩ ⟨Nat.le_of_ble_eq_true rfl, Nat.le_of_ble_eq_true rfl⟩ (hR.recv M (tG_0 hA) rfl) rfl hl.1 rfl (lv_room (Nat.le_of_ble_eq_true rfl)) dX2_word_77 ⟨(by first | exact Nat.le_refl _ | exact Nat.zero_le _ | (dsimp only; omega)), (by first | exact Nat.le_refl _ | exact Nat.zero_le _ | (dsimp only; omega))⟩) hS (fun r77 G77 H locs hp77 hR hS => ?_)
      obtain ⟨rfl, V77, rfl, hs77⟩ := hp77
      have hF := hs77.row hF (by decide)
      refine lv_if_eq (tgt := 87) hx hb dX2_word_80 (by decide) (fun c80 => ?_) (fun c80 => ?_)
      · rw [c80] at hz
        refine lv_iconst (v := (0 : Int32)) hx hb dX2_word_87 (by decide) ?_
        exact g_iret M hr hlk hR hS (by omega) (by omega) dX2_word_88 (⟨hz.symm, _, rfl, (tQ.trans (tQ.trans tQ.rf hq2 (by decide)) hs77 (by decide)), hF⟩)
      · rw [bI_1.mpr (bI_n0.mp c80)] at hz
        refine lv_iconst (v := (1 : Int32)) hx hb dX2_word_83 (by decide) ?_
        refine lv_goto (tgt := 88) hx hb dX2_word_84 (by decide) ?_
        exact g_iret M hr hlk hR hS (by omega) (by omega) dX2_word_88 (⟨hz.symm, _, rfl, (tQ.trans (tQ.trans tQ.rf hq2 (by decide)) hs77 (by decide)), hF⟩)
    by_cases t15_4 : what = 4
    · refine lv_tableIn (off := 74) (tgt := 89) hx hb dX2_word_15 (by rw [t15_4]; decide) (by rw [t15_4]; decide) (by rw [t15_4]; decide) (by decide) ?_
      have hz : zWrd F N w what = oI (fCf F N w) := (if_neg hw1).trans ((if_neg t15_0).trans ((if_neg t15_1).trans ((if_neg t15_2).trans ((if_neg t15_3).trans ((if_pos t15_4).trans (rfl))))))
      refine lv_aload_n hx hb dX2_word_89 rfl (lv_at hl 0 rfl) ?_
      refine lv_iload_n hx hb dX2_word_90 rfl (lv_at hl 1 rfl) ?_
      refine g_ki (g_V (As := [_]) M hR hS (c_X2_conflict l K hA (by first | assumption | rfl) _ (by assumption)) (lw_V q1308 q1310 qs51 q73 q1311) 1 md_X2_conflict rfl ⟨rfl, rfl⟩ ⟨Nat.le_of_ble_eq_true rfl, Nat.le_of_ble_eq_true rfl⟩ (hR.recv M (tG_0 hA) rfl) rfl hl.1 rfl (lv_room (Nat.le_of_ble_eq_true rfl)) dX2_word_91 ⟨(by first | exact Nat.le_refl _ | exact Nat.zero_le _ | (dsimp only; omega)), (by first | exact Nat.le_refl _ | exact Nat.zero_le _ | (dsimp only; omega))⟩) hS (fun r91 G91 H locs hp91 hR hS => ?_)
      obtain ⟨rfl, V91, rfl, hs91⟩ := hp91
      have hF := hs91.row hF (by decide)
      exact g_iret M hr hlk hR hS (by omega) (by omega) dX2_word_94 (⟨hz.symm, _, rfl, (tQ.trans (tQ.trans tQ.rf hq2 (by decide)) hs91 (by decide)), hF⟩)
    by_cases t15_5 : what = 5
    · refine lv_tableIn (off := 80) (tgt := 95) hx hb dX2_word_15 (by rw [t15_5]; decide) (by rw [t15_5]; decide) (by rw [t15_5]; decide) (by decide) ?_
      have hz : zWrd F N w what = fBits (fun u => fCm F N w 16 (nI u)) nI 16 := (if_neg hw1).trans ((if_neg t15_0).trans ((if_neg t15_1).trans ((if_neg t15_2).trans ((if_neg t15_3).trans ((if_neg t15_4).trans ((if_pos t15_5).trans (rfl)))))))
      refine lv_aload_n hx hb dX2_word_95 rfl (lv_at hl 0 rfl) ?_
      refine lv_iload_n hx hb dX2_word_96 rfl (lv_at hl 1 rfl) ?_
      refine g_ki (g_V (As := [_]) M hR hS (c_X2_dependents l K hA (by first | assumption | rfl) _ (by assumption)) (lw_V q1320 q1322 qs54 q73 q1323) 1 md_X2_dependents rfl ⟨rfl, rfl⟩ ⟨Nat.le_of_ble_eq_true rfl, Nat.le_of_ble_eq_true rfl⟩ (hR.recv M (tG_0 hA) rfl) rfl hl.1 rfl (lv_room (Nat.le_of_ble_eq_true rfl)) dX2_word_97 ⟨(by first | exact Nat.le_refl _ | exact Nat.zero_le _ | (dsimp only; omega)), (by first | exact Nat.le_refl _ | exact Nat.zero_le _ | (dsimp only; omega))⟩) hS (fun r97 G97 H locs hp97 hR hS => ?_)
      obtain ⟨rfl, rfl⟩ := hp97
      exact g_iret M hr hlk hR hS (by omega) (by omega) dX2_word_100 (⟨hz.symm, _, rfl, (tQ.trans tQ.rf hq2 (by decide)), hF⟩)
    by_cases t15_6 : what = 6
    · refine lv_tableIn (off := 86) (tgt := 101) hx hb dX2_word_15 (by rw [t15_6]; decide) (by rw [t15_6]; decide) (by rw [t15_6]; decide) (by decide) ?_
      have hz : zWrd F N w what = oI (fLy F N 17 w) := (if_neg hw1).trans ((if_neg t15_0).trans ((if_neg t15_1).trans ((if_neg t15_2).trans ((if_neg t15_3).trans ((if_neg t15_4).trans ((if_neg t15_5).trans ((if_pos t15_6).trans (rfl))))))))
      refine lv_aload_n hx hb dX2_word_101 rfl (lv_at hl 0 rfl) ?_
      refine lv_iload_n hx hb dX2_word_102 rfl (lv_at hl 1 rfl) ?_
      refine g_ki (g_V (As := [_]) M hR hS (c_X2_lays l K hA (by first | assumption | rfl) _ (by assumption)) (lw_V q1270 q1272 qs44 q73 q1273) 1 md_X2_lays rfl ⟨rfl, rfl⟩ ⟨Nat.le_of_ble_eq_true rfl, Nat.le_of_ble_eq_true rfl⟩ (hR.recv M (tG_0 hA) rfl) rfl hl.1 rfl (lv_room (Nat.le_of_ble_eq_true rfl)) dX2_word_103 ⟨(by first | exact Nat.le_refl _ | exact Nat.zero_le _ | (dsimp only; omega)), (by first | exact Nat.le_refl _ | exact Nat.zero_le _ | (dsimp only; omega))⟩) hS (fun r103 G103 H locs hp103 hR hS => ?_)
      obtain ⟨rfl, V103, rfl, hs103, hg103⟩ := hp103
      have hF := hs103.row hF (by decide)
      exact g_iret M hr hlk hR hS (by omega) (by omega) dX2_word_106 (⟨hz.symm, _, rfl, (tQ.trans (tQ.trans tQ.rf hq2 (by decide)) hs103 (by decide)), hF⟩)
    refine lv_tableOut (tgt := 107) hx hb dX2_word_15 (tb_out (n := 6) (by decide) (fun k hk => ?_)) (by decide) ?_
    · rcases (by omega : k = 0 ∨ k = 1 ∨ k = 2 ∨ k = 3 ∨ k = 4 ∨ k = 5 ∨ k = 6) with q | q | q | q | q | q | q <;> subst q
      · exact t15_0
      · exact t15_1
      · exact t15_2
      · exact t15_3
      · exact t15_4
      · exact t15_5
      · exact t15_6
    have hz : zWrd F N w what = -2 := (if_neg hw1).trans ((if_neg t15_0).trans ((if_neg t15_1).trans ((if_neg t15_2).trans ((if_neg t15_3).trans ((if_neg t15_4).trans ((if_neg t15_5).trans ((if_neg t15_6).trans (rfl))))))))
    refine lv_bipush (v := ((-2) : Int32)) hx hb dX2_word_107 (by decide) ?_
    exact g_iret M hr hlk hR hS (by omega) (by omega) dX2_word_109 (⟨hz.symm, _, rfl, (tQ.trans tQ.rf hq2 (by decide)), hF⟩)
  · have hz : zWrd F N w what = -1 := if_pos (bI_0.mp c9)
    refine lv_iconst (v := ((-1) : Int32)) hx hb dX2_word_12 (by decide) ?_
    exact g_iret M hr hlk hR hS (by omega) (by omega) dX2_word_13 (⟨hz.symm, _, rfl, (tQ.trans tQ.rf hq2 (by decide)), hF⟩)

theorem md_X2_hangsAt : gMd yX2_hangsAt 2 := by
  unfold gMd
  decide +kernel
set_option maxHeartbeats 4000000 in
set_option maxRecDepth 100000 in
theorem c_X2_hangsAt (l : Launch) (K : gK) {G0 : gG} {A : Nat → Nat} {V : tV} {F : Nat → Int32} (hA : tInj A) (hF : V.2.1 1 = F) (w place : Int32) {P N : Nat} (ok : fOk F P N) : Met l yX2_hangsAt (ws_ yX2_hangsAt cX2_hangsAt 5 (Option.some Jvm.ClassFile.FieldType.int)) (gRm 3 0 0 65) (gPre K [.ref (A 0), .int w, .int place] (tG K G0 A V)) (gQi K (fun r G1 => r = zHat F N w place ∧ ∃ V1, G1 = tG K G0 A V1 ∧ tRes V V1 F)) 0 0 (gA K) := by
  refine g_met (by decide) (Nat.le_of_ble_eq_true rfl) ?_
  intro p e s m below meth c M hr hlk hnm hR ls hl
  have M : gM K p s m _ c cX2_hangsAt 5 RX2 := M
  have hx := M.hx
  have hb := M.hb
  have hS : va_S (gA K) s.heap s.heap [] := va_S.rf
  have hl : lv_has ls 5 [(0, .ref (A 0)), (1, .int w), (2, .int place)] := hl
  have hF0 := hF
  have hN := ok.hN
  have hN2 := ok.hN2
  refine lv_aload_n hx hb dX2_hangsAt_0 rfl (lv_at hl 0 rfl) ?_
  refine lv_iconst (v := (0 : Int32)) hx hb dX2_hangsAt_1 (by decide) ?_
  refine t_putQ M hA hR hS 0 (by decide) q1039 ⟨rfl, rfl⟩ rfl rfl dX2_hangsAt_2 (fun V2 H locs hq2 hw2 hz2 hR hS => ?_)
  have hF := hq2.row hF (by decide)
  refine lv_iload_n hx hb dX2_hangsAt_5 rfl (lv_at hl 1 rfl) ?_
  refine g_ki (g_S (As := [_]) M hR hS (c_X2_isWord l K _) (lw_S q1136 q1137 q73 q1138) 1 md_X2_isWord ⟨rfl, rfl⟩ ⟨Nat.le_of_ble_eq_true rfl, Nat.le_of_ble_eq_true rfl⟩ rfl hl.1 rfl (lv_room (Nat.le_of_ble_eq_true rfl)) dX2_hangsAt_6 ⟨(by first | exact Nat.le_refl _ | exact Nat.zero_le _ | (dsimp only; omega)), (by first | exact Nat.le_refl _ | exact Nat.zero_le _ | (dsimp only; omega))⟩) hS (fun r6 G6 H locs hp6 hR hS => ?_)
  obtain ⟨rfl, e0⟩ := hp6
  rw [e0] at hR
  refine lv_if_ne (tgt := 14) hx hb dX2_hangsAt_9 (by decide) (fun c9 => ?_) (fun c9 => ?_)
  · have hw1 : ¬ fIn w 0 15 = false := by rw [bI_n0.mp c9]; decide
    refine lv_iload_n hx hb dX2_hangsAt_14 rfl (lv_at hl 2 rfl) ?_
    refine lv_if_ge (tgt := 21) hx hb dX2_hangsAt_15 (by decide) (fun c15 => ?_) (fun c15 => ?_)
    · obtain ⟨k9, hk9, rfl⟩ := nI_of (x := place) (Int32.not_lt.mpr c15)
      have hz : zHat F N w (nI k9) = oI (fHa (fHf F w) N k9) := (if_neg hw1).trans ((if_neg (Int32.not_lt.mpr c15)).trans (by rw [zN_nI hk9]))
      refine lv_iconst (v := (0 : Int32)) hx hb dX2_hangsAt_21 (by decide) ?_
      refine lv_istore_n (lv' := [(3, _), (0, _), (1, _), (2, _)]) hx hb dX2_hangsAt_22 rfl hl (by decide) rfl (fun ls hl => ?_)
      refine lv_aload_n hx hb dX2_hangsAt_23 rfl (lv_at hl 1 rfl) ?_
      refine t_get M hA hR 1 (by decide) q1040 rfl rfl dX2_hangsAt_24 ?_
      refine lv_iconst (v := (1 : Int32)) hx hb dX2_hangsAt_27 (by decide) ?_
      refine t_aldF M hA (by first | assumption | rfl) hR (by decide) 1 rfl (by decide) dX2_hangsAt_28 ?_
      refine g_topi (nI N) hN ?_
      refine lv_iconst (v := (1 : Int32)) hx hb dX2_hangsAt_29 (by decide) ?_
      refine lv_isub hx hb dX2_hangsAt_30 ?_
      refine lv_istore (lv' := [(4, _), (3, _), (0, _), (1, _), (2, _)]) hx hb dX2_hangsAt_31 hl (by decide) rfl (fun ls hl => ?_)
      refine g_loop (pc := 33) (fun (k : Nat) (ls : Array Slot) (G : gG) (cells slots : Nat) => ∃ j c9, lv_has ls 5 [(4, .int (nI j - 1)), (3, .int (nI c9)), (2, .int (nI k9)), (1, .int w), (0, .ref (A 0))] ∧ j ≤ N ∧ k = j ∧ c9 ≤ k9 ∧ c9 + j ≤ N ∧ fHa (fHf F w) N k9 = fHa (fHf F w) j (k9 - c9) ∧ G = tG K G0 A V2 ∧ cells = 0 ∧ slots = 0) ?_ (N) ⟨N, 0, lv_sub hl [0, 1, 4, 3, 2] rfl, Nat.le_refl _, rfl, Nat.zero_le _, by omega, rfl, rfl, rfl, rfl⟩ hR hS
      intro k ls G H locs cells slots hI hR hS ih33
      obtain ⟨j, c9, hl, hj, rfl, hc1, hc2, he, rfl, rfl, rfl⟩ := hI
      refine lv_iload hx hb dX2_hangsAt_33 (lv_at hl 0 rfl) ?_
      refine lv_if_lt (tgt := 65) hx hb dX2_hangsAt_35 (by decide) (fun c35 => ?_) (fun c35 => ?_)
      · refine lv_bipush (v := ((-5) : Int32)) hx hb dX2_hangsAt_65 (by decide) ?_
        exact g_iret M hr hlk hR hS (by omega) (by omega) dX2_hangsAt_67 (⟨by rw [hz, he, dn_end c35 (by omega)]; rfl, _, rfl, (tQ.trans tQ.rf hq2 (by decide)), hF⟩)
      · obtain ⟨i, rfl⟩ := dn_not c35
        rw [nI_pred] at hl
        refine lv_aload_n hx hb dX2_hangsAt_38 rfl (lv_at hl 4 rfl) ?_
        refine lv_iload hx hb dX2_hangsAt_39 (lv_at hl 0 rfl) ?_
        refine lv_iload_n hx hb dX2_hangsAt_41 rfl (lv_at hl 3 rfl) ?_
        refine g_ki (g_V (As := [_, _]) M hR hS (c_X2_hangsFor l K hA (by first | assumption | rfl) i w (by omega)) (lw_V q1177 q1179 qs31 q73 q1180) 2 md_X2_hangsFor rfl ⟨rfl, rfl⟩ ⟨Nat.le_of_ble_eq_true rfl, Nat.le_of_ble_eq_true rfl⟩ (hR.recv M (tG_0 hA) rfl) rfl hl.1 rfl (lv_room (Nat.le_of_ble_eq_true rfl)) dX2_hangsAt_42 ⟨(by first | exact Nat.le_refl _ | exact Nat.zero_le _ | (dsimp only; omega)), (by first | exact Nat.le_refl _ | exact Nat.zero_le _ | (dsimp only; omega))⟩) hS (fun r42 G42 H locs hp42 hR hS => ?_)
        obtain ⟨rfl, rfl⟩ := hp42
        refine lv_if_eq (tgt := 59) hx hb dX2_hangsAt_45 (by decide) (fun c45 => ?_) (fun c45 => ?_)
        · have he := he.trans (show fHa (fHf F w) (i + 1) (k9 - c9) = fHa (fHf F w) i (k9 - c9) from (if_neg (by rw [bI_0.mp c45]; decide)))
          refine lv_iinc (v := _) (lv' := [(4, _), (3, _), (2, _), (1, _), (0, _)]) hx hb dX2_hangsAt_59 hl (k := 0) rfl (dn_dec _) (by decide) rfl (fun ls hl => ?_)
          refine lv_goto (tgt := 33) hx hb dX2_hangsAt_62 (by decide) ?_
          exact ih33 (i) _ _ _ _ _ _ (by omega) ⟨i, c9, lv_sub hl [0, 1, 2, 3, 4] rfl, by omega, rfl, by omega, by omega, he, rfl, rfl, rfl⟩ hR hS
        · refine lv_iload_n hx hb dX2_hangsAt_48 rfl (lv_at hl 1 rfl) ?_
          refine lv_iload_n hx hb dX2_hangsAt_49 rfl (lv_at hl 2 rfl) ?_
          refine lv_icmp_ne (tgt := 56) hx hb dX2_hangsAt_50 (by decide) (fun c50 => ?_) (fun c50 => ?_)
          · have hck : ¬ c9 = k9 := fun z => c50 (by rw [z])
            refine g_inc (lv' := [(3, _), (4, _), (2, _), (1, _), (0, _)]) M dX2_hangsAt_56 hl (k := 1) rfl (by decide) rfl (fun ls hl => ?_)
            have he := he.trans (show fHa (fHf F w) (i + 1) (k9 - c9) = fHa (fHf F w) i (k9 - (c9 + 1)) from ((if_pos (bI_n0.mp c45)).trans ((if_neg (by omega)).trans (by rw [show k9 - c9 - 1 = k9 - (c9 + 1) by omega]))))
            refine lv_iinc (v := _) (lv' := [(4, _), (3, _), (2, _), (1, _), (0, _)]) hx hb dX2_hangsAt_59 hl (k := 1) rfl (dn_dec _) (by decide) rfl (fun ls hl => ?_)
            refine lv_goto (tgt := 33) hx hb dX2_hangsAt_62 (by decide) ?_
            exact ih33 (i) _ _ _ _ _ _ (by omega) ⟨i, c9 + 1, lv_sub hl [0, 1, 2, 3, 4] rfl, by omega, rfl, by omega, by omega, he, rfl, rfl, rfl⟩ hR hS
          · have hck : c9 = k9 := (nI_eq (by omega) hk9).mp c50
            refine lv_iload hx hb dX2_hangsAt_53 (lv_at hl 0 rfl) ?_
            exact g_iret M hr hlk hR hS (by omega) (by omega) dX2_hangsAt_55 (⟨by rw [hz, he, show fHa (fHf F w) (i + 1) (k9 - c9) = some i from (if_pos (bI_n0.mp c45)).trans (if_pos (by omega))]; rfl, _, rfl, (tQ.trans tQ.rf hq2 (by decide)), hF⟩)
    · have hz : zHat F N w place = -2 := (if_neg hw1).trans (if_pos (Int32.not_le.mp c15))
      refine lv_bipush (v := ((-2) : Int32)) hx hb dX2_hangsAt_18 (by decide) ?_
      exact g_iret M hr hlk hR hS (by omega) (by omega) dX2_hangsAt_20 (⟨hz.symm, _, rfl, (tQ.trans tQ.rf hq2 (by decide)), hF⟩)
  · have hz : zHat F N w place = -1 := if_pos (bI_0.mp c9)
    refine lv_iconst (v := ((-1) : Int32)) hx hb dX2_hangsAt_12 (by decide) ?_
    exact g_iret M hr hlk hR hS (by omega) (by omega) dX2_hangsAt_13 (⟨hz.symm, _, rfl, (tQ.trans tQ.rf hq2 (by decide)), hF⟩)

theorem md_X2_order : gMd yX2_order 2 := by
  unfold gMd
  decide +kernel
set_option maxHeartbeats 4000000 in
set_option maxRecDepth 100000 in
theorem c_X2_order (l : Launch) (K : gK) {G0 : gG} {A : Nat → Nat} {V : tV} {F : Nat → Int32} (hA : tInj A) (hF : V.2.1 1 = F) (o what : Int32) {P N : Nat} (ok : fOk F P N) : Met l yX2_order (ws_ yX2_order cX2_order 4 (Option.some Jvm.ClassFile.FieldType.int)) (gRm 4 0 0 103) (gPre K [.ref (A 0), .int o, .int what] (tG K G0 A V)) (gQi K (fun r G1 => r = zOrd F N o what ∧ ∃ V1, G1 = tG K G0 A V1 ∧ tRes V V1 F)) 0 0 (gA K) := by
  refine g_met (by decide) (Nat.le_of_ble_eq_true rfl) ?_
  intro p e s m below meth c M hr hlk hnm hR ls hl
  have M : gM K p s m _ c cX2_order 4 RX2 := M
  have hx := M.hx
  have hb := M.hb
  have hS : va_S (gA K) s.heap s.heap [] := va_S.rf
  have hl : lv_has ls 4 [(0, .ref (A 0)), (1, .int o), (2, .int what)] := hl
  have hF0 := hF
  have hN := ok.hN
  have hN2 := ok.hN2
  refine lv_aload_n hx hb dX2_order_0 rfl (lv_at hl 0 rfl) ?_
  refine lv_iconst (v := (0 : Int32)) hx hb dX2_order_1 (by decide) ?_
  refine t_putQ M hA hR hS 0 (by decide) q1039 ⟨rfl, rfl⟩ rfl rfl dX2_order_2 (fun V2 H locs hq2 hw2 hz2 hR hS => ?_)
  have hF := hq2.row hF (by decide)
  refine lv_aload_n hx hb dX2_order_5 rfl (lv_at hl 0 rfl) ?_
  refine lv_iload_n hx hb dX2_order_6 rfl (lv_at hl 1 rfl) ?_
  refine g_ki (g_V (As := [_]) M hR hS (c_X2_isOrder l K hA (by first | assumption | rfl) _) (lw_V q1165 q1167 qs28 q73 q1168) 1 md_X2_isOrder rfl ⟨rfl, rfl⟩ ⟨Nat.le_of_ble_eq_true rfl, Nat.le_of_ble_eq_true rfl⟩ (hR.recv M (tG_0 hA) rfl) rfl hl.1 rfl (lv_room (Nat.le_of_ble_eq_true rfl)) dX2_order_7 ⟨(by first | exact Nat.le_refl _ | exact Nat.zero_le _ | (dsimp only; omega)), (by first | exact Nat.le_refl _ | exact Nat.zero_le _ | (dsimp only; omega))⟩) hS (fun r7 G7 H locs hp7 hR hS => ?_)
  obtain ⟨rfl, rfl⟩ := hp7
  refine lv_if_ne (tgt := 15) hx hb dX2_order_10 (by decide) (fun c10 => ?_) (fun c10 => ?_)
  · have ho1 := bI_n0.mp c10
    obtain ⟨o9, ho9, rfl⟩ := fIn_nI (by rw [← hN]; exact ho1) (by omega)
    have hzo : zN (nI o9) = o9 := zN_k ho9 hN2
    have ho2 : ¬ fIn (nI o9) 0 (F 1 - 1) = false := by rw [ho1]; decide
    refine lv_aload_n hx hb dX2_order_15 rfl (lv_at hl 0 rfl) ?_
    refine lv_iload_n hx hb dX2_order_16 rfl (lv_at hl 1 rfl) ?_
    refine lv_iconst (v := (1 : Int32)) hx hb dX2_order_17 (by decide) ?_
    refine g_ki (g_V (As := [_, _]) M hR hS (c_X2_of l K hA (by first | assumption | rfl) o9 1 (by omega)) (lw_V q1153 q1155 qs27 q73 q1156) 2 md_X2_of rfl ⟨rfl, rfl⟩ ⟨Nat.le_of_ble_eq_true rfl, Nat.le_of_ble_eq_true rfl⟩ (hR.recv M (tG_0 hA) rfl) rfl hl.1 rfl (lv_room (Nat.le_of_ble_eq_true rfl)) dX2_order_18 ⟨(by first | exact Nat.le_refl _ | exact Nat.zero_le _ | (dsimp only; omega)), (by first | exact Nat.le_refl _ | exact Nat.zero_le _ | (dsimp only; omega))⟩) hS (fun r18 G18 H locs hp18 hR hS => ?_)
    obtain ⟨rfl, rfl⟩ := hp18
    refine lv_istore_n (lv' := [(3, _), (0, _), (1, _), (2, _)]) hx hb dX2_order_21 rfl hl (by decide) rfl (fun ls hl => ?_)
    refine lv_iload_n hx hb dX2_order_22 rfl (lv_at hl 3 rfl) ?_
    by_cases t23_0 : what = 0
    · refine lv_tableIn (off := 45) (tgt := 68) hx hb dX2_order_23 (by rw [t23_0]; decide) (by rw [t23_0]; decide) (by rw [t23_0]; decide) (by decide) ?_
      have hz : zOrd F N (nI o9) what = fo F o9 0 := (if_neg ho2).trans ((if_pos t23_0).trans (by rw [hzo]))
      refine lv_aload_n hx hb dX2_order_68 rfl (lv_at hl 1 rfl) ?_
      refine lv_iload_n hx hb dX2_order_69 rfl (lv_at hl 2 rfl) ?_
      refine lv_iconst (v := (0 : Int32)) hx hb dX2_order_70 (by decide) ?_
      refine g_ki (g_V (As := [_, _]) M hR hS (c_X2_of l K hA (by first | assumption | rfl) o9 0 (by omega)) (lw_V q1153 q1155 qs27 q73 q1156) 2 md_X2_of rfl ⟨rfl, rfl⟩ ⟨Nat.le_of_ble_eq_true rfl, Nat.le_of_ble_eq_true rfl⟩ (hR.recv M (tG_0 hA) rfl) rfl hl.1 rfl (lv_room (Nat.le_of_ble_eq_true rfl)) dX2_order_71 ⟨(by first | exact Nat.le_refl _ | exact Nat.zero_le _ | (dsimp only; omega)), (by first | exact Nat.le_refl _ | exact Nat.zero_le _ | (dsimp only; omega))⟩) hS (fun r71 G71 H locs hp71 hR hS => ?_)
      obtain ⟨rfl, rfl⟩ := hp71
      exact g_iret M hr hlk hR hS (by omega) (by omega) dX2_order_74 (⟨hz.symm, _, rfl, (tQ.trans tQ.rf hq2 (by decide)), hF⟩)
    by_cases t23_1 : what = 1
    · refine lv_tableIn (off := 52) (tgt := 75) hx hb dX2_order_23 (by rw [t23_1]; decide) (by rw [t23_1]; decide) (by rw [t23_1]; decide) (by decide) ?_
      have hz : zOrd F N (nI o9) what = fo F o9 1 := (if_neg ho2).trans ((if_neg t23_0).trans ((if_pos t23_1).trans (by rw [hzo])))
      refine lv_iload_n hx hb dX2_order_75 rfl (lv_at hl 0 rfl) ?_
      exact g_iret M hr hlk hR hS (by omega) (by omega) dX2_order_76 (⟨hz.symm, _, rfl, (tQ.trans tQ.rf hq2 (by decide)), hF⟩)
    by_cases t23_2 : what = 2
    · refine lv_tableIn (off := 54) (tgt := 77) hx hb dX2_order_23 (by rw [t23_2]; decide) (by rw [t23_2]; decide) (by rw [t23_2]; decide) (by decide) ?_
      have hz : zOrd F N (nI o9) what = fo F o9 2 := (if_neg ho2).trans ((if_neg t23_0).trans ((if_neg t23_1).trans ((if_pos t23_2).trans (by rw [hzo]))))
      refine lv_aload_n hx hb dX2_order_77 rfl (lv_at hl 1 rfl) ?_
      refine lv_iload_n hx hb dX2_order_78 rfl (lv_at hl 2 rfl) ?_
      refine lv_iconst (v := (2 : Int32)) hx hb dX2_order_79 (by decide) ?_
      refine g_ki (g_V (As := [_, _]) M hR hS (c_X2_of l K hA (by first | assumption | rfl) o9 2 (by omega)) (lw_V q1153 q1155 qs27 q73 q1156) 2 md_X2_of rfl ⟨rfl, rfl⟩ ⟨Nat.le_of_ble_eq_true rfl, Nat.le_of_ble_eq_true rfl⟩ (hR.recv M (tG_0 hA) rfl) rfl hl.1 rfl (lv_room (Nat.le_of_ble_eq_true rfl)) dX2_order_80 ⟨(by first | exact Nat.le_refl _ | exact Nat.zero_le _ | (dsimp only; omega)), (by first | exact Nat.le_refl _ | exact Nat.zero_le _ | (dsimp only; omega))⟩) hS (fun r80 G80 H locs hp80 hR hS => ?_)
      obtain ⟨rfl, rfl⟩ := hp80
      exact g_iret M hr hlk hR hS (by omega) (by omega) dX2_order_83 (⟨hz.symm, _, rfl, (tQ.trans tQ.rf hq2 (by decide)), hF⟩)
    by_cases t23_3 : what = 3
    · refine lv_tableIn (off := 61) (tgt := 84) hx hb dX2_order_23 (by rw [t23_3]; decide) (by rw [t23_3]; decide) (by rw [t23_3]; decide) (by decide) ?_
      have hz : zOrd F N (nI o9) what = fo F o9 6 := (if_neg ho2).trans ((if_neg t23_0).trans ((if_neg t23_1).trans ((if_neg t23_2).trans ((if_pos t23_3).trans (by rw [hzo])))))
      refine lv_aload_n hx hb dX2_order_84 rfl (lv_at hl 1 rfl) ?_
      refine lv_iload_n hx hb dX2_order_85 rfl (lv_at hl 2 rfl) ?_
      refine lv_bipush (v := (6 : Int32)) hx hb dX2_order_86 (by decide) ?_
      refine g_ki (g_V (As := [_, _]) M hR hS (c_X2_of l K hA (by first | assumption | rfl) o9 6 (by omega)) (lw_V q1153 q1155 qs27 q73 q1156) 2 md_X2_of rfl ⟨rfl, rfl⟩ ⟨Nat.le_of_ble_eq_true rfl, Nat.le_of_ble_eq_true rfl⟩ (hR.recv M (tG_0 hA) rfl) rfl hl.1 rfl (lv_room (Nat.le_of_ble_eq_true rfl)) dX2_order_88 ⟨(by first | exact Nat.le_refl _ | exact Nat.zero_le _ | (dsimp only; omega)), (by first | exact Nat.le_refl _ | exact Nat.zero_le _ | (dsimp only; omega))⟩) hS (fun r88 G88 H locs hp88 hR hS => ?_)
      obtain ⟨rfl, rfl⟩ := hp88
      exact g_iret M hr hlk hR hS (by omega) (by omega) dX2_order_91 (⟨hz.symm, _, rfl, (tQ.trans tQ.rf hq2 (by decide)), hF⟩)
    by_cases t23_4 : what = 4
    · refine lv_tableIn (off := 69) (tgt := 92) hx hb dX2_order_23 (by rw [t23_4]; decide) (by rw [t23_4]; decide) (by rw [t23_4]; decide) (by decide) ?_
      refine lv_aload_n hx hb dX2_order_92 rfl (lv_at hl 1 rfl) ?_
      refine lv_iload_n hx hb dX2_order_93 rfl (lv_at hl 2 rfl) ?_
      refine g_ki (g_V (As := [_]) M hR hS (c_X2_hangs l K hA (by first | assumption | rfl) o9 (by omega)) (lw_V q1169 q1171 qs29 q73 q1172) 1 md_X2_hangs rfl ⟨rfl, rfl⟩ ⟨Nat.le_of_ble_eq_true rfl, Nat.le_of_ble_eq_true rfl⟩ (hR.recv M (tG_0 hA) rfl) rfl hl.1 rfl (lv_room (Nat.le_of_ble_eq_true rfl)) dX2_order_94 ⟨(by first | exact Nat.le_refl _ | exact Nat.zero_le _ | (dsimp only; omega)), (by first | exact Nat.le_refl _ | exact Nat.zero_le _ | (dsimp only; omega))⟩) hS (fun r94 G94 H locs hp94 hR hS => ?_)
      obtain ⟨rfl, rfl⟩ := hp94
      refine lv_if_eq (tgt := 111) hx hb dX2_order_97 (by decide) (fun c97 => ?_) (fun c97 => ?_)
      · have hz : zOrd F N (nI o9) what = -5 := (if_neg ho2).trans ((if_neg t23_0).trans ((if_neg t23_1).trans ((if_neg t23_2).trans ((if_neg t23_3).trans ((if_pos t23_4).trans (by rw [hzo]; exact if_neg (by rw [bI_0.mp c97]; decide)))))))
        refine lv_bipush (v := ((-5) : Int32)) hx hb dX2_order_111 (by decide) ?_
        exact g_iret M hr hlk hR hS (by omega) (by omega) dX2_order_113 (⟨hz.symm, _, rfl, (tQ.trans tQ.rf hq2 (by decide)), hF⟩)
      · have hz : zOrd F N (nI o9) what = nI (fCnt (fHf F (fo F o9 1)) (o9 + 1) (N - (o9 + 1))) := (if_neg ho2).trans ((if_neg t23_0).trans ((if_neg t23_1).trans ((if_neg t23_2).trans ((if_neg t23_3).trans ((if_pos t23_4).trans (by rw [hzo]; exact if_pos (bI_n0.mp c97)))))))
        refine lv_aload_n hx hb dX2_order_100 rfl (lv_at hl 1 rfl) ?_
        refine lv_iload_n hx hb dX2_order_101 rfl (lv_at hl 0 rfl) ?_
        refine lv_iload_n hx hb dX2_order_102 rfl (lv_at hl 2 rfl) ?_
        refine lv_iconst (v := (1 : Int32)) hx hb dX2_order_103 (by decide) ?_
        refine lv_iadd hx hb dX2_order_104 ?_
        refine g_topi (nI (o9 + 1)) (nI_1 o9) ?_
        refine g_ki (g_V (As := [_, _]) M hR hS (c_X2_many l K hA (by first | assumption | rfl) _ (o9 + 1) hN hN2 (by omega)) (lw_V q1173 q1175 qs30 q73 q1176) 2 md_X2_many rfl ⟨rfl, rfl⟩ ⟨Nat.le_of_ble_eq_true rfl, Nat.le_of_ble_eq_true rfl⟩ (hR.recv M (tG_0 hA) rfl) rfl hl.1 rfl (lv_room (Nat.le_of_ble_eq_true rfl)) dX2_order_105 ⟨(by first | exact Nat.le_refl _ | exact Nat.zero_le _ | (dsimp only; omega)), (by first | exact Nat.le_refl _ | exact Nat.zero_le _ | (dsimp only; omega))⟩) hS (fun r105 G105 H locs hp105 hR hS => ?_)
        obtain ⟨rfl, rfl⟩ := hp105
        refine lv_goto (tgt := 113) hx hb dX2_order_108 (by decide) ?_
        exact g_iret M hr hlk hR hS (by omega) (by omega) dX2_order_113 (⟨hz.symm, _, rfl, (tQ.trans tQ.rf hq2 (by decide)), hF⟩)
    by_cases t23_5 : what = 5
    · refine lv_tableIn (off := 91) (tgt := 114) hx hb dX2_order_23 (by rw [t23_5]; decide) (by rw [t23_5]; decide) (by rw [t23_5]; decide) (by decide) ?_
      refine lv_aload_n hx hb dX2_order_114 rfl (lv_at hl 1 rfl) ?_
      refine lv_iload_n hx hb dX2_order_115 rfl (lv_at hl 2 rfl) ?_
      refine g_ki (g_V (As := [_]) M hR hS (c_X2_hangs l K hA (by first | assumption | rfl) o9 (by omega)) (lw_V q1169 q1171 qs29 q73 q1172) 1 md_X2_hangs rfl ⟨rfl, rfl⟩ ⟨Nat.le_of_ble_eq_true rfl, Nat.le_of_ble_eq_true rfl⟩ (hR.recv M (tG_0 hA) rfl) rfl hl.1 rfl (lv_room (Nat.le_of_ble_eq_true rfl)) dX2_order_116 ⟨(by first | exact Nat.le_refl _ | exact Nat.zero_le _ | (dsimp only; omega)), (by first | exact Nat.le_refl _ | exact Nat.zero_le _ | (dsimp only; omega))⟩) hS (fun r116 G116 H locs hp116 hR hS => ?_)
      obtain ⟨rfl, rfl⟩ := hp116
      refine lv_if_eq (tgt := 138) hx hb dX2_order_119 (by decide) (fun c119 => ?_) (fun c119 => ?_)
      · have hz : zOrd F N (nI o9) what = -5 := (if_neg ho2).trans ((if_neg t23_0).trans ((if_neg t23_1).trans ((if_neg t23_2).trans ((if_neg t23_3).trans ((if_neg t23_4).trans ((if_pos t23_5).trans (by rw [hzo]; exact if_neg (by rw [bI_0.mp c119]; decide))))))))
        refine lv_bipush (v := ((-5) : Int32)) hx hb dX2_order_138 (by decide) ?_
        exact g_iret M hr hlk hR hS (by omega) (by omega) dX2_order_140 (⟨hz.symm, _, rfl, (tQ.trans tQ.rf hq2 (by decide)), hF⟩)
      · have hz : zOrd F N (nI o9) what = nI (fCnt (fHf F (fo F o9 1)) 0 N) - nI (fCnt (fHf F (fo F o9 1)) o9 (N - o9)) := (if_neg ho2).trans ((if_neg t23_0).trans ((if_neg t23_1).trans ((if_neg t23_2).trans ((if_neg t23_3).trans ((if_neg t23_4).trans ((if_pos t23_5).trans (by rw [hzo]; exact if_pos (bI_n0.mp c119))))))))
        refine lv_aload_n hx hb dX2_order_122 rfl (lv_at hl 1 rfl) ?_
        refine lv_iload_n hx hb dX2_order_123 rfl (lv_at hl 0 rfl) ?_
        refine lv_iconst (v := (0 : Int32)) hx hb dX2_order_124 (by decide) ?_
        refine g_ki (g_V (As := [_, _]) M hR hS (c_X2_many l K hA (by first | assumption | rfl) _ 0 hN hN2 (by omega)) (lw_V q1173 q1175 qs30 q73 q1176) 2 md_X2_many rfl ⟨rfl, rfl⟩ ⟨Nat.le_of_ble_eq_true rfl, Nat.le_of_ble_eq_true rfl⟩ (hR.recv M (tG_0 hA) rfl) rfl hl.1 rfl (lv_room (Nat.le_of_ble_eq_true rfl)) dX2_order_125 ⟨(by first | exact Nat.le_refl _ | exact Nat.zero_le _ | (dsimp only; omega)), (by first | exact Nat.le_refl _ | exact Nat.zero_le _ | (dsimp only; omega))⟩) hS (fun r125 G125 H locs hp125 hR hS => ?_)
        obtain ⟨rfl, rfl⟩ := hp125
        refine lv_aload_n hx hb dX2_order_128 rfl (lv_at hl 1 rfl) ?_
        refine lv_iload_n hx hb dX2_order_129 rfl (lv_at hl 0 rfl) ?_
        refine lv_iload_n hx hb dX2_order_130 rfl (lv_at hl 2 rfl) ?_
        refine g_ki (g_V (As := [_, _]) M hR hS (c_X2_many l K hA (by first | assumption | rfl) _ o9 hN hN2 (by omega)) (lw_V q1173 q1175 qs30 q73 q1176) 2 md_X2_many rfl ⟨rfl, rfl⟩ ⟨Nat.le_of_ble_eq_true rfl, Nat.le_of_ble_eq_true rfl⟩ (hR.recv M (tG_0 hA) rfl) rfl hl.1 rfl (lv_room (Nat.le_of_ble_eq_true rfl)) dX2_order_131 ⟨(by first | exact Nat.le_refl _ | exact Nat.zero_le _ | (dsimp only; omega)), (by first | exact Nat.le_refl _ | exact Nat.zero_le _ | (dsimp only; omega))⟩) hS (fun r131 G131 H locs hp131 hR hS => ?_)
        obtain ⟨rfl, rfl⟩ := hp131
        refine lv_isub hx hb dX2_order_134 ?_
        refine lv_goto (tgt := 140) hx hb dX2_order_135 (by decide) ?_
        exact g_iret M hr hlk hR hS (by omega) (by omega) dX2_order_140 (⟨hz.symm, _, rfl, (tQ.trans tQ.rf hq2 (by decide)), hF⟩)
    by_cases t23_6 : what = 6
    · refine lv_tableIn (off := 118) (tgt := 141) hx hb dX2_order_23 (by rw [t23_6]; decide) (by rw [t23_6]; decide) (by rw [t23_6]; decide) (by decide) ?_
      have hz : zOrd F N (nI o9) what = FP.f2i (FP.fmul (fSg F o9) 1120403456) := (if_neg ho2).trans ((if_neg t23_0).trans ((if_neg t23_1).trans ((if_neg t23_2).trans ((if_neg t23_3).trans ((if_neg t23_4).trans ((if_neg t23_5).trans ((if_pos t23_6).trans (by rw [hzo]))))))))
      refine lv_aload_n hx hb dX2_order_141 rfl (lv_at hl 1 rfl) ?_
      refine lv_iload_n hx hb dX2_order_142 rfl (lv_at hl 2 rfl) ?_
      refine g_ki (g_V (As := [_]) M hR hS (c_X2_hundredths l K hA (by first | assumption | rfl) o9 ok ho9) (lw_V q1194 q1196 qs34 q73 q1197) 1 md_X2_hundredths rfl ⟨rfl, rfl⟩ ⟨Nat.le_of_ble_eq_true rfl, Nat.le_of_ble_eq_true rfl⟩ (hR.recv M (tG_0 hA) rfl) rfl hl.1 rfl (lv_room (Nat.le_of_ble_eq_true rfl)) dX2_order_143 ⟨(by first | exact Nat.le_refl _ | exact Nat.zero_le _ | (dsimp only; omega)), (by first | exact Nat.le_refl _ | exact Nat.zero_le _ | (dsimp only; omega))⟩) hS (fun r143 G143 H locs hp143 hR hS => ?_)
      obtain ⟨rfl, rfl⟩ := hp143
      exact g_iret M hr hlk hR hS (by omega) (by omega) dX2_order_146 (⟨hz.symm, _, rfl, (tQ.trans tQ.rf hq2 (by decide)), hF⟩)
    by_cases t23_7 : what = 7
    · refine lv_tableIn (off := 124) (tgt := 147) hx hb dX2_order_23 (by rw [t23_7]; decide) (by rw [t23_7]; decide) (by rw [t23_7]; decide) (by decide) ?_
      have hz : zOrd F N (nI o9) what = bI (decide (oI (fRul F (fo F o9 1) N) = nI o9)) := (if_neg ho2).trans ((if_neg t23_0).trans ((if_neg t23_1).trans ((if_neg t23_2).trans ((if_neg t23_3).trans ((if_neg t23_4).trans ((if_neg t23_5).trans ((if_neg t23_6).trans ((if_pos t23_7).trans (by rw [hzo])))))))))
      refine lv_aload_n hx hb dX2_order_147 rfl (lv_at hl 1 rfl) ?_
      refine lv_iload_n hx hb dX2_order_148 rfl (lv_at hl 0 rfl) ?_
      refine g_ki (g_V (As := [_]) M hR hS (c_X2_ruling l K hA (by first | assumption | rfl) _ (by assumption)) (lw_V q1274 q1276 qs45 q73 q1277) 1 md_X2_ruling rfl ⟨rfl, rfl⟩ ⟨Nat.le_of_ble_eq_true rfl, Nat.le_of_ble_eq_true rfl⟩ (hR.recv M (tG_0 hA) rfl) rfl hl.1 rfl (lv_room (Nat.le_of_ble_eq_true rfl)) dX2_order_149 ⟨(by first | exact Nat.le_refl _ | exact Nat.zero_le _ | (dsimp only; omega)), (by first | exact Nat.le_refl _ | exact Nat.zero_le _ | (dsimp only; omega))⟩) hS (fun r149 G149 H locs hp149 hR hS => ?_)
      obtain ⟨rfl, rfl⟩ := hp149
      refine lv_iload_n hx hb dX2_order_152 rfl (lv_at hl 2 rfl) ?_
      refine lv_icmp_ne (tgt := 160) hx hb dX2_order_153 (by decide) (fun c153 => ?_) (fun c153 => ?_)
      · rw [decide_eq_false c153] at hz
        refine lv_iconst (v := (0 : Int32)) hx hb dX2_order_160 (by decide) ?_
        exact g_iret M hr hlk hR hS (by omega) (by omega) dX2_order_161 (⟨hz.symm, _, rfl, (tQ.trans tQ.rf hq2 (by decide)), hF⟩)
      · rw [decide_eq_true c153] at hz
        refine lv_iconst (v := (1 : Int32)) hx hb dX2_order_156 (by decide) ?_
        refine lv_goto (tgt := 161) hx hb dX2_order_157 (by decide) ?_
        exact g_iret M hr hlk hR hS (by omega) (by omega) dX2_order_161 (⟨hz.symm, _, rfl, (tQ.trans tQ.rf hq2 (by decide)), hF⟩)
    refine lv_tableOut (tgt := 162) hx hb dX2_order_23 (tb_out (n := 7) (by decide) (fun k hk => ?_)) (by decide) ?_
    · rcases (by omega : k = 0 ∨ k = 1 ∨ k = 2 ∨ k = 3 ∨ k = 4 ∨ k = 5 ∨ k = 6 ∨ k = 7) with q | q | q | q | q | q | q | q <;> subst q
      · exact t23_0
      · exact t23_1
      · exact t23_2
      · exact t23_3
      · exact t23_4
      · exact t23_5
      · exact t23_6
      · exact t23_7
    have hz : zOrd F N (nI o9) what = -2 := (if_neg ho2).trans ((if_neg t23_0).trans ((if_neg t23_1).trans ((if_neg t23_2).trans ((if_neg t23_3).trans ((if_neg t23_4).trans ((if_neg t23_5).trans ((if_neg t23_6).trans ((if_neg t23_7).trans (rfl)))))))))
    refine lv_bipush (v := ((-2) : Int32)) hx hb dX2_order_162 (by decide) ?_
    exact g_iret M hr hlk hR hS (by omega) (by omega) dX2_order_164 (⟨hz.symm, _, rfl, (tQ.trans tQ.rf hq2 (by decide)), hF⟩)
  · have hz : zOrd F N o what = -1 := if_pos (bI_0.mp c10)
    refine lv_iconst (v := ((-1) : Int32)) hx hb dX2_order_13 (by decide) ?_
    exact g_iret M hr hlk hR hS (by omega) (by omega) dX2_order_14 (⟨hz.symm, _, rfl, (tQ.trans tQ.rf hq2 (by decide)), hF⟩)

theorem md_X2_real : gMd yX2_real 2 := by
  unfold gMd
  decide +kernel
set_option maxHeartbeats 4000000 in
set_option maxRecDepth 100000 in
theorem c_X2_real (l : Launch) (K : gK) {G0 : gG} {A : Nat → Nat} {V : tV} {F : Nat → Int32} (hA : tInj A) (hF : V.2.1 1 = F) (o what : Int32) {P N : Nat} (ok : fOk F P N) : Met l yX2_real (ws_ yX2_real cX2_real 3 (Option.some Jvm.ClassFile.FieldType.float)) (gRm 2 0 0 82) (gPre K [.ref (A 0), .int o, .int what] (tG K G0 A V)) (gQf K (fun r G1 => r = oF (zRe F o what) ∧ ∃ V1, G1 = tG K G0 A V1 ∧ tRes V V1 F)) 0 0 (gA K) := by
  refine g_met (by decide) (Nat.le_of_ble_eq_true rfl) ?_
  intro p e s m below meth c M hr hlk hnm hR ls hl
  have M : gM K p s m _ c cX2_real 3 RX2 := M
  have hx := M.hx
  have hb := M.hb
  have hS : va_S (gA K) s.heap s.heap [] := va_S.rf
  have hl : lv_has ls 3 [(0, .ref (A 0)), (1, .int o), (2, .int what)] := hl
  have hF0 := hF
  have hN := ok.hN
  have hN2 := ok.hN2
  refine lv_aload_n hx hb dX2_real_0 rfl (lv_at hl 0 rfl) ?_
  refine lv_iconst (v := (0 : Int32)) hx hb dX2_real_1 (by decide) ?_
  refine t_putQ M hA hR hS 0 (by decide) q1039 ⟨rfl, rfl⟩ rfl rfl dX2_real_2 (fun V2 H locs hq2 hw2 hz2 hR hS => ?_)
  have hF := hq2.row hF (by decide)
  refine lv_aload_n hx hb dX2_real_5 rfl (lv_at hl 0 rfl) ?_
  refine lv_iload_n hx hb dX2_real_6 rfl (lv_at hl 1 rfl) ?_
  refine g_ki (g_V (As := [_]) M hR hS (c_X2_isOrder l K hA (by first | assumption | rfl) _) (lw_V q1165 q1167 qs28 q73 q1168) 1 md_X2_isOrder rfl ⟨rfl, rfl⟩ ⟨Nat.le_of_ble_eq_true rfl, Nat.le_of_ble_eq_true rfl⟩ (hR.recv M (tG_0 hA) rfl) rfl hl.1 rfl (lv_room (Nat.le_of_ble_eq_true rfl)) dX2_real_7 ⟨(by first | exact Nat.le_refl _ | exact Nat.zero_le _ | (dsimp only; omega)), (by first | exact Nat.le_refl _ | exact Nat.zero_le _ | (dsimp only; omega))⟩) hS (fun r7 G7 H locs hp7 hR hS => ?_)
  obtain ⟨rfl, rfl⟩ := hp7
  refine lv_if_eq (tgt := 22) hx hb dX2_real_10 (by decide) (fun c10 => ?_) (fun c10 => ?_)
  · have hz : zRe F o what = none := if_pos (Or.inl (bI_0.mp c10))
    refine lv_ldcf hx hb M.hown (M.hts _ q1265) dX2_real_22 ?_
    refine lv_goto (tgt := 60) hx hb dX2_real_24 (by decide) ?_
    exact g_fret M hr hlk hR hS (by omega) (by omega) dX2_real_60 (⟨by rw [hz]; rfl, _, rfl, (tQ.trans tQ.rf hq2 (by decide)), hF⟩)
  · refine lv_iload_n hx hb dX2_real_13 rfl (lv_at hl 2 rfl) ?_
    refine lv_iconst (v := (0 : Int32)) hx hb dX2_real_14 (by decide) ?_
    refine lv_iconst (v := (2 : Int32)) hx hb dX2_real_15 (by decide) ?_
    refine g_ki (g_S (As := [_, _, _]) M hR hS (c_X2_in l K _ _ _) (lw_S q1098 q1099 q73 q1100) 3 md_X2_in ⟨rfl, rfl⟩ ⟨Nat.le_of_ble_eq_true rfl, Nat.le_of_ble_eq_true rfl⟩ rfl hl.1 rfl (lv_room (Nat.le_of_ble_eq_true rfl)) dX2_real_16 ⟨(by first | exact Nat.le_refl _ | exact Nat.zero_le _ | (dsimp only; omega)), (by first | exact Nat.le_refl _ | exact Nat.zero_le _ | (dsimp only; omega))⟩) hS (fun r16 G16 H locs hp16 hR hS => ?_)
    obtain ⟨rfl, e0⟩ := hp16
    rw [e0] at hR
    refine lv_if_ne (tgt := 27) hx hb dX2_real_19 (by decide) (fun c19 => ?_) (fun c19 => ?_)
    · have ho1 := bI_n0.mp c10
      obtain ⟨o9, ho9, rfl⟩ := fIn_nI (by rw [← hN]; exact ho1) (by omega)
      have hzo : zN (nI o9) = o9 := zN_k ho9 hN2
      have ho2 : ¬ (fIn (nI o9) 0 (F 1 - 1) = false ∨ fIn what 0 2 = false) := by rw [ho1, bI_n0.mp c19]; decide
      refine lv_iload_n hx hb dX2_real_27 rfl (lv_at hl 2 rfl) ?_
      refine lv_if_ne (tgt := 40) hx hb dX2_real_28 (by decide) (fun c28 => ?_) (fun c28 => ?_)
      · refine lv_iload_n hx hb dX2_real_40 rfl (lv_at hl 2 rfl) ?_
        refine lv_iconst (v := (1 : Int32)) hx hb dX2_real_41 (by decide) ?_
        refine lv_icmp_ne (tgt := 54) hx hb dX2_real_42 (by decide) (fun c42 => ?_) (fun c42 => ?_)
        · have hz : zRe F (nI o9) what = some (fSg F o9) := (if_neg ho2).trans ((if_neg c28).trans ((if_neg c42).trans (by rw [hzo])))
          refine lv_aload_n hx hb dX2_real_54 rfl (lv_at hl 0 rfl) ?_
          refine lv_iload_n hx hb dX2_real_55 rfl (lv_at hl 1 rfl) ?_
          refine lv_iconst (v := (5 : Int32)) hx hb dX2_real_56 (by decide) ?_
          refine g_kf (g_V (As := [_, _]) M hR hS (c_X2_realOf l K hA (by first | assumption | rfl) o9 5 (by omega) (ok.re5 ho9)) (lw_V q1185 q1187 qs32 q73 q1188) 2 md_X2_realOf rfl ⟨rfl, rfl⟩ ⟨Nat.le_of_ble_eq_true rfl, Nat.le_of_ble_eq_true rfl⟩ (hR.recv M (tG_0 hA) rfl) rfl hl.1 rfl (lv_room (Nat.le_of_ble_eq_true rfl)) dX2_real_57 ⟨(by first | exact Nat.le_refl _ | exact Nat.zero_le _ | (dsimp only; omega)), (by first | exact Nat.le_refl _ | exact Nat.zero_le _ | (dsimp only; omega))⟩) hS (fun r57 G57 H locs hp57 hR hS => ?_)
          obtain ⟨rfl, rfl⟩ := hp57
          exact g_fret M hr hlk hR hS (by omega) (by omega) dX2_real_60 (⟨by rw [hz]; rfl, _, rfl, (tQ.trans tQ.rf hq2 (by decide)), hF⟩)
        · have hz : zRe F (nI o9) what = some (fFc F o9) := (if_neg ho2).trans ((if_neg c28).trans ((if_pos c42).trans (by rw [hzo])))
          refine lv_aload_n hx hb dX2_real_45 rfl (lv_at hl 0 rfl) ?_
          refine lv_iload_n hx hb dX2_real_46 rfl (lv_at hl 1 rfl) ?_
          refine lv_iconst (v := (3 : Int32)) hx hb dX2_real_47 (by decide) ?_
          refine g_kf (g_V (As := [_, _]) M hR hS (c_X2_realOf l K hA (by first | assumption | rfl) o9 3 (by omega) (ok.re3 ho9)) (lw_V q1185 q1187 qs32 q73 q1188) 2 md_X2_realOf rfl ⟨rfl, rfl⟩ ⟨Nat.le_of_ble_eq_true rfl, Nat.le_of_ble_eq_true rfl⟩ (hR.recv M (tG_0 hA) rfl) rfl hl.1 rfl (lv_room (Nat.le_of_ble_eq_true rfl)) dX2_real_48 ⟨(by first | exact Nat.le_refl _ | exact Nat.zero_le _ | (dsimp only; omega)), (by first | exact Nat.le_refl _ | exact Nat.zero_le _ | (dsimp only; omega))⟩) hS (fun r48 G48 H locs hp48 hR hS => ?_)
          obtain ⟨rfl, rfl⟩ := hp48
          refine lv_goto (tgt := 60) hx hb dX2_real_51 (by decide) ?_
          exact g_fret M hr hlk hR hS (by omega) (by omega) dX2_real_60 (⟨by rw [hz]; rfl, _, rfl, (tQ.trans tQ.rf hq2 (by decide)), hF⟩)
      · have hz : zRe F (nI o9) what = some (fNm F o9) := (if_neg ho2).trans ((if_pos c28).trans (by rw [hzo]))
        refine lv_aload_n hx hb dX2_real_31 rfl (lv_at hl 0 rfl) ?_
        refine lv_iload_n hx hb dX2_real_32 rfl (lv_at hl 1 rfl) ?_
        refine lv_iconst (v := (4 : Int32)) hx hb dX2_real_33 (by decide) ?_
        refine g_kf (g_V (As := [_, _]) M hR hS (c_X2_realOf l K hA (by first | assumption | rfl) o9 4 (by omega) (ok.re4 ho9)) (lw_V q1185 q1187 qs32 q73 q1188) 2 md_X2_realOf rfl ⟨rfl, rfl⟩ ⟨Nat.le_of_ble_eq_true rfl, Nat.le_of_ble_eq_true rfl⟩ (hR.recv M (tG_0 hA) rfl) rfl hl.1 rfl (lv_room (Nat.le_of_ble_eq_true rfl)) dX2_real_34 ⟨(by first | exact Nat.le_refl _ | exact Nat.zero_le _ | (dsimp only; omega)), (by first | exact Nat.le_refl _ | exact Nat.zero_le _ | (dsimp only; omega))⟩) hS (fun r34 G34 H locs hp34 hR hS => ?_)
        obtain ⟨rfl, rfl⟩ := hp34
        refine lv_goto (tgt := 60) hx hb dX2_real_37 (by decide) ?_
        exact g_fret M hr hlk hR hS (by omega) (by omega) dX2_real_60 (⟨by rw [hz]; rfl, _, rfl, (tQ.trans tQ.rf hq2 (by decide)), hF⟩)
    · have hz : zRe F o what = none := if_pos (Or.inr (bI_0.mp c19))
      refine lv_ldcf hx hb M.hown (M.hts _ q1265) dX2_real_22 ?_
      refine lv_goto (tgt := 60) hx hb dX2_real_24 (by decide) ?_
      exact g_fret M hr hlk hR hS (by omega) (by omega) dX2_real_60 (⟨by rw [hz]; rfl, _, rfl, (tQ.trans tQ.rf hq2 (by decide)), hF⟩)

theorem md_X2_reason : gMd yX2_reason 2 := by
  unfold gMd
  decide +kernel
set_option maxHeartbeats 4000000 in
set_option maxRecDepth 100000 in
theorem c_X2_reason (l : Launch) (K : gK) {G0 : gG} {A : Nat → Nat} {V : tV} {F : Nat → Int32} (hA : tInj A) (hF : V.2.1 1 = F) (w step : Int32) {P N : Nat} (ok : fOk F P N) : Met l yX2_reason (ws_ yX2_reason cX2_reason 5 (Option.some Jvm.ClassFile.FieldType.int)) (gRm 4 0 0 88) (gPre K [.ref (A 0), .int w, .int step] (tG K G0 A V)) (gQi K (fun r G1 => r = zRsn F N w step ∧ ∃ V1, G1 = tG K G0 A V1 ∧ tRes V V1 F)) 0 0 (gA K) := by
  refine g_met (by decide) (Nat.le_of_ble_eq_true rfl) ?_
  intro p e s m below meth c M hr hlk hnm hR ls hl
  have M : gM K p s m _ c cX2_reason 5 RX2 := M
  have hx := M.hx
  have hb := M.hb
  have hS : va_S (gA K) s.heap s.heap [] := va_S.rf
  have hl : lv_has ls 5 [(0, .ref (A 0)), (1, .int w), (2, .int step)] := hl
  have hF0 := hF
  have hN := ok.hN
  have hN2 := ok.hN2
  refine lv_aload_n hx hb dX2_reason_0 rfl (lv_at hl 0 rfl) ?_
  refine lv_iconst (v := (0 : Int32)) hx hb dX2_reason_1 (by decide) ?_
  refine t_putQ M hA hR hS 0 (by decide) q1039 ⟨rfl, rfl⟩ rfl rfl dX2_reason_2 (fun V2 H locs hq2 hw2 hz2 hR hS => ?_)
  have hF := hq2.row hF (by decide)
  refine lv_iload_n hx hb dX2_reason_5 rfl (lv_at hl 1 rfl) ?_
  refine g_ki (g_S (As := [_]) M hR hS (c_X2_isWord l K _) (lw_S q1136 q1137 q73 q1138) 1 md_X2_isWord ⟨rfl, rfl⟩ ⟨Nat.le_of_ble_eq_true rfl, Nat.le_of_ble_eq_true rfl⟩ rfl hl.1 rfl (lv_room (Nat.le_of_ble_eq_true rfl)) dX2_reason_6 ⟨(by first | exact Nat.le_refl _ | exact Nat.zero_le _ | (dsimp only; omega)), (by first | exact Nat.le_refl _ | exact Nat.zero_le _ | (dsimp only; omega))⟩) hS (fun r6 G6 H locs hp6 hR hS => ?_)
  obtain ⟨rfl, e0⟩ := hp6
  rw [e0] at hR
  refine lv_if_ne (tgt := 14) hx hb dX2_reason_9 (by decide) (fun c9 => ?_) (fun c9 => ?_)
  · have hw1 : ¬ fIn w 0 15 = false := by rw [bI_n0.mp c9]; decide
    refine lv_iload_n hx hb dX2_reason_14 rfl (lv_at hl 2 rfl) ?_
    refine lv_iconst (v := (0 : Int32)) hx hb dX2_reason_15 (by decide) ?_
    refine lv_bipush (v := (16 : Int32)) hx hb dX2_reason_16 (by decide) ?_
    refine g_ki (g_S (As := [_, _, _]) M hR hS (c_X2_in l K _ _ _) (lw_S q1098 q1099 q73 q1100) 3 md_X2_in ⟨rfl, rfl⟩ ⟨Nat.le_of_ble_eq_true rfl, Nat.le_of_ble_eq_true rfl⟩ rfl hl.1 rfl (lv_room (Nat.le_of_ble_eq_true rfl)) dX2_reason_18 ⟨(by first | exact Nat.le_refl _ | exact Nat.zero_le _ | (dsimp only; omega)), (by first | exact Nat.le_refl _ | exact Nat.zero_le _ | (dsimp only; omega))⟩) hS (fun r18 G18 H locs hp18 hR hS => ?_)
    obtain ⟨rfl, e0⟩ := hp18
    rw [e0] at hR
    refine lv_if_ne (tgt := 27) hx hb dX2_reason_21 (by decide) (fun c21 => ?_) (fun c21 => ?_)
    · have hs1 := bI_n0.mp c21
      obtain ⟨s9, hs9, rfl⟩ := fIn_nI (n := 17) hs1 (by decide)
      have hz : zRsn F N w (nI s9) = oI (fRul F (fIt F N w s9) N) := (if_neg hw1).trans ((if_neg (by rw [hs1]; decide)).trans (by rw [zN_nI (by omega)]))
      refine lv_aload_n hx hb dX2_reason_27 rfl (lv_at hl 0 rfl) ?_
      refine lv_iload_n hx hb dX2_reason_28 rfl (lv_at hl 1 rfl) ?_
      refine g_ki (g_V (As := [_]) M hR hS (c_X2_ruling l K hA (by first | assumption | rfl) _ (by assumption)) (lw_V q1274 q1276 qs45 q73 q1277) 1 md_X2_ruling rfl ⟨rfl, rfl⟩ ⟨Nat.le_of_ble_eq_true rfl, Nat.le_of_ble_eq_true rfl⟩ (hR.recv M (tG_0 hA) rfl) rfl hl.1 rfl (lv_room (Nat.le_of_ble_eq_true rfl)) dX2_reason_29 ⟨(by first | exact Nat.le_refl _ | exact Nat.zero_le _ | (dsimp only; omega)), (by first | exact Nat.le_refl _ | exact Nat.zero_le _ | (dsimp only; omega))⟩) hS (fun r29 G29 H locs hp29 hR hS => ?_)
      obtain ⟨rfl, rfl⟩ := hp29
      refine lv_istore_n (lv' := [(3, _), (0, _), (1, _), (2, _)]) hx hb dX2_reason_32 rfl hl (by decide) rfl (fun ls hl => ?_)
      refine lv_iconst (v := (0 : Int32)) hx hb dX2_reason_33 (by decide) ?_
      refine lv_istore (lv' := [(4, _), (3, _), (0, _), (1, _), (2, _)]) hx hb dX2_reason_34 hl (by decide) rfl (fun ls hl => ?_)
      refine g_loop (pc := 36) (fun (k : Nat) (ls : Array Slot) (G : gG) (cells slots : Nat) => ∃ j, lv_has ls 5 [(4, .int (nI j)), (3, .int (oI (fRul F (fIt F N w j) N))), (2, .int (nI s9)), (1, .int w), (0, .ref (A 0))] ∧ j ≤ s9 ∧ k = s9 - j ∧ G = tG K G0 A V2 ∧ cells = 0 ∧ slots = 0) ?_ (s9) ⟨0, lv_sub hl [0, 1, 4, 3, 2] rfl, by omega, rfl, rfl, rfl, rfl⟩ hR hS
      intro k ls G H locs cells slots hI hR hS ih36
      obtain ⟨j, hl, hj, rfl, rfl, rfl, rfl⟩ := hI
      refine lv_iload hx hb dX2_reason_36 (lv_at hl 0 rfl) ?_
      refine lv_iload_n hx hb dX2_reason_38 rfl (lv_at hl 2 rfl) ?_
      refine lv_icmp_ge (tgt := 81) hx hb dX2_reason_39 (by decide) (fun c39 => ?_) (fun c39 => ?_)
      · have he : fRul F (fIt F N w j) N = fRul F (fIt F N w s9) N := by rw [eq_of_ge c39 hj (by omega)]
        refine lv_iload_n hx hb dX2_reason_81 rfl (lv_at hl 1 rfl) ?_
        exact g_iret M hr hlk hR hS (by omega) (by omega) dX2_reason_82 (⟨by rw [hz, he], _, rfl, (tQ.trans tQ.rf hq2 (by decide)), hF⟩)
      · have hjs : j < s9 := lt_of_not c39 (by omega)
        refine lv_iload_n hx hb dX2_reason_42 rfl (lv_at hl 1 rfl) ?_
        refine lv_bipush (v := ((-5) : Int32)) hx hb dX2_reason_43 (by decide) ?_
        refine lv_icmp_eq (tgt := 81) hx hb dX2_reason_45 (by decide) (fun c45 => ?_) (fun c45 => ?_)
        · have he : fRul F (fIt F N w j) N = fRul F (fIt F N w s9) N := by have e := oI_n c45 (fun b h => by have := fRul_lt h; omega); have h2 := rsn_n ok (s9 - j) j e; rw [show j + (s9 - j) = s9 by omega] at h2; rw [e, h2]
          refine lv_iload_n hx hb dX2_reason_81 rfl (lv_at hl 1 rfl) ?_
          exact g_iret M hr hlk hR hS (by omega) (by omega) dX2_reason_82 (⟨by rw [hz, he], _, rfl, (tQ.trans tQ.rf hq2 (by decide)), hF⟩)
        · obtain ⟨b, hb1⟩ := oI_s c45
          have hb2 := fRul_lt hb1
          rw [hb1] at hl
          have hk := fLk_r hb1
          refine lv_aload_n hx hb dX2_reason_48 rfl (lv_at hl 4 rfl) ?_
          refine lv_iload_n hx hb dX2_reason_49 rfl (lv_at hl 1 rfl) ?_
          refine lv_iconst (v := (2 : Int32)) hx hb dX2_reason_50 (by decide) ?_
          refine g_ki (g_V (As := [_, _]) M hR hS (c_X2_of l K hA (by first | assumption | rfl) b 2 (by omega)) (lw_V q1153 q1155 qs27 q73 q1156) 2 md_X2_of rfl ⟨rfl, rfl⟩ ⟨Nat.le_of_ble_eq_true rfl, Nat.le_of_ble_eq_true rfl⟩ (hR.recv M (tG_0 hA) rfl) rfl hl.1 rfl (lv_room (Nat.le_of_ble_eq_true rfl)) dX2_reason_51 ⟨(by first | exact Nat.le_refl _ | exact Nat.zero_le _ | (dsimp only; omega)), (by first | exact Nat.le_refl _ | exact Nat.zero_le _ | (dsimp only; omega))⟩) hS (fun r51 G51 H locs hp51 hR hS => ?_)
          obtain ⟨rfl, rfl⟩ := hp51
          refine lv_bipush (v := ((-5) : Int32)) hx hb dX2_reason_54 (by decide) ?_
          refine lv_icmp_ne (tgt := 64) hx hb dX2_reason_56 (by decide) (fun c56 => ?_) (fun c56 => ?_)
          · refine lv_aload_n hx hb dX2_reason_64 rfl (lv_at hl 4 rfl) ?_
            refine lv_aload_n hx hb dX2_reason_65 rfl (lv_at hl 4 rfl) ?_
            refine lv_iload_n hx hb dX2_reason_66 rfl (lv_at hl 1 rfl) ?_
            refine lv_iconst (v := (2 : Int32)) hx hb dX2_reason_67 (by decide) ?_
            refine g_ki (g_V (As := [_, _]) M hR hS (c_X2_of l K hA (by first | assumption | rfl) b 2 (by omega)) (lw_V q1153 q1155 qs27 q73 q1156) 2 md_X2_of rfl ⟨rfl, rfl⟩ ⟨Nat.le_of_ble_eq_true rfl, Nat.le_of_ble_eq_true rfl⟩ (hR.recv M (tG_0 hA) rfl) rfl hl.1 rfl (lv_room (Nat.le_of_ble_eq_true rfl)) dX2_reason_68 ⟨(by first | exact Nat.le_refl _ | exact Nat.zero_le _ | (dsimp only; omega)), (by first | exact Nat.le_refl _ | exact Nat.zero_le _ | (dsimp only; omega))⟩) hS (fun r68 G68 H locs hp68 hR hS => ?_)
            obtain ⟨rfl, rfl⟩ := hp68
            refine g_ki (g_V (As := [_]) M hR hS (c_X2_ruling l K hA (by first | assumption | rfl) _ (by assumption)) (lw_V q1274 q1276 qs45 q73 q1277) 1 md_X2_ruling rfl ⟨rfl, rfl⟩ ⟨Nat.le_of_ble_eq_true rfl, Nat.le_of_ble_eq_true rfl⟩ (hR.recv M (tG_0 hA) rfl) rfl hl.1 rfl (lv_room (Nat.le_of_ble_eq_true rfl)) dX2_reason_71 ⟨(by first | exact Nat.le_refl _ | exact Nat.zero_le _ | (dsimp only; omega)), (by first | exact Nat.le_refl _ | exact Nat.zero_le _ | (dsimp only; omega))⟩) hS (fun r71 G71 H locs hp71 hR hS => ?_)
            obtain ⟨rfl, rfl⟩ := hp71
            refine g_topi (oI (fRul F (fIt F N w (j + 1)) N)) (by rw [fIt_s, hk]) ?_
            refine lv_istore_n (lv' := [(3, _), (4, _), (2, _), (1, _), (0, _)]) hx hb dX2_reason_74 rfl hl (by decide) rfl (fun ls hl => ?_)
            refine g_inc (lv' := [(4, _), (3, _), (2, _), (1, _), (0, _)]) M dX2_reason_75 hl (k := 1) rfl (by decide) rfl (fun ls hl => ?_)
            refine lv_goto (tgt := 36) hx hb dX2_reason_78 (by decide) ?_
            exact ih36 (s9 - (j + 1)) _ _ _ _ _ _ (by omega) ⟨j + 1, lv_sub hl [0, 1, 2, 3, 4] rfl, by omega, rfl, rfl, rfl, rfl⟩ hR hS
          · refine lv_bipush (v := ((-5) : Int32)) hx hb dX2_reason_59 (by decide) ?_
            refine lv_goto (tgt := 74) hx hb dX2_reason_61 (by decide) ?_
            refine g_topi (oI (fRul F (fIt F N w (j + 1)) N)) (by rw [fIt_s, hk, c56, rul_n5 ok N (Nat.le_refl _)]; rfl) ?_
            refine lv_istore_n (lv' := [(3, _), (4, _), (2, _), (1, _), (0, _)]) hx hb dX2_reason_74 rfl hl (by decide) rfl (fun ls hl => ?_)
            refine g_inc (lv' := [(4, _), (3, _), (2, _), (1, _), (0, _)]) M dX2_reason_75 hl (k := 1) rfl (by decide) rfl (fun ls hl => ?_)
            refine lv_goto (tgt := 36) hx hb dX2_reason_78 (by decide) ?_
            exact ih36 (s9 - (j + 1)) _ _ _ _ _ _ (by omega) ⟨j + 1, lv_sub hl [0, 1, 2, 3, 4] rfl, by omega, rfl, rfl, rfl, rfl⟩ hR hS
    · have hz : zRsn F N w step = -2 := (if_neg hw1).trans (if_pos (bI_0.mp c21))
      refine lv_bipush (v := ((-2) : Int32)) hx hb dX2_reason_24 (by decide) ?_
      exact g_iret M hr hlk hR hS (by omega) (by omega) dX2_reason_26 (⟨hz.symm, _, rfl, (tQ.trans tQ.rf hq2 (by decide)), hF⟩)
  · have hz : zRsn F N w step = -1 := if_pos (bI_0.mp c9)
    refine lv_iconst (v := ((-1) : Int32)) hx hb dX2_reason_12 (by decide) ?_
    exact g_iret M hr hlk hR hS (by omega) (by omega) dX2_reason_13 (⟨hz.symm, _, rfl, (tQ.trans tQ.rf hq2 (by decide)), hF⟩)

theorem md_X2_addPerson : gMd yX2_addPerson 1 := by
  unfold gMd
  decide +kernel
set_option maxHeartbeats 4000000 in
set_option maxRecDepth 100000 in
theorem c_X2_addPerson (l : Launch) (K : gK) {G0 : gG} {A : Nat → Nat} {V : tV} {F : Nat → Int32} (hA : tInj A) (hF : V.2.1 1 = F) (rank : Int32) (a : Nat) (ha : V.1 6 = nI a) (ha4 : a ≤ 4) {P N : Nat} (ok : fOk F P N) : Met l yX2_addPerson (ws_ yX2_addPerson cX2_addPerson 2 (Option.some Jvm.ClassFile.FieldType.int)) (gRm 1 0 0 22) (gPre K [.ref (A 0), .int rank] (tG K G0 A V)) (gQi K (fun r G1 => r = (zAdd F P rank).1 ∧ ∃ V1, G1 = tG K G0 A V1 ∧ tDo V V1 F a (zAdd F P rank).2)) 0 0 (gA K) := by
  refine g_met (by decide) (Nat.le_of_ble_eq_true rfl) ?_
  intro p e s m below meth c M hr hlk hnm hR ls hl
  have M : gM K p s m _ c cX2_addPerson 2 RX2 := M
  have hx := M.hx
  have hb := M.hb
  have hS : va_S (gA K) s.heap s.heap [] := va_S.rf
  have hl : lv_has ls 2 [(0, .ref (A 0)), (1, .int rank)] := hl
  have hF0 := hF
  have hN := ok.hN
  have hN2 := ok.hN2
  have hP6 := ok.hP6
  refine lv_aload_n hx hb dX2_addPerson_0 rfl (lv_at hl 0 rfl) ?_
  refine g_kv (g_V (As := []) M hR hS (c_X2_aside l K hA (by first | assumption | rfl)) (lw_V q1094 q1096 qs22 q73 q1097) 0 md_X2_aside rfl ⟨rfl, rfl⟩ ⟨Nat.le_of_ble_eq_true rfl, Nat.le_of_ble_eq_true rfl⟩ (hR.recv M (tG_0 hA) rfl) rfl hl.1 rfl (lv_room (Nat.le_of_ble_eq_true rfl)) dX2_addPerson_1 ⟨(by first | exact Nat.le_refl _ | exact Nat.zero_le _ | (dsimp only; omega)), (by first | exact Nat.le_refl _ | exact Nat.zero_le _ | (dsimp only; omega))⟩) hS (fun G1 H locs hp1 hR hS => ?_)
  obtain ⟨V1, rfl, hs1, hput⟩ := hp1
  have hF := hs1.row hF (by decide)
  refine lv_iload_n hx hb dX2_addPerson_4 rfl (lv_at hl 1 rfl) ?_
  refine lv_iconst (v := (1 : Int32)) hx hb dX2_addPerson_5 (by decide) ?_
  refine lv_iconst (v := (5 : Int32)) hx hb dX2_addPerson_6 (by decide) ?_
  refine g_ki (g_S (As := [_, _, _]) M hR hS (c_X2_in l K _ _ _) (lw_S q1098 q1099 q73 q1100) 3 md_X2_in ⟨rfl, rfl⟩ ⟨Nat.le_of_ble_eq_true rfl, Nat.le_of_ble_eq_true rfl⟩ rfl hl.1 rfl (lv_room (Nat.le_of_ble_eq_true rfl)) dX2_addPerson_7 ⟨(by first | exact Nat.le_refl _ | exact Nat.zero_le _ | (dsimp only; omega)), (by first | exact Nat.le_refl _ | exact Nat.zero_le _ | (dsimp only; omega))⟩) hS (fun r7 G7 H locs hp7 hR hS => ?_)
  obtain ⟨rfl, e0⟩ := hp7
  rw [e0] at hR
  refine lv_if_ne (tgt := 16) hx hb dX2_addPerson_10 (by decide) (fun c10 => ?_) (fun c10 => ?_)
  · have hrk := bI_n0.mp c10
    have hr2 : ¬ fIn rank 1 5 = false := by rw [hrk]; decide
    refine lv_aload_n hx hb dX2_addPerson_16 rfl (lv_at hl 0 rfl) ?_
    refine t_get M hA hR 1 (by decide) q1040 rfl rfl dX2_addPerson_17 ?_
    refine lv_iconst (v := (0 : Int32)) hx hb dX2_addPerson_20 (by decide) ?_
    refine t_aldE M hA ((congrFun hF 0).trans ok.hP) hR (by decide) rfl (by decide) dX2_addPerson_21 ?_
    refine lv_bipush (v := (6 : Int32)) hx hb dX2_addPerson_22 (by decide) ?_
    refine lv_icmp_ne (tgt := 30) hx hb dX2_addPerson_24 (by decide) (fun c24 => ?_) (fun c24 => ?_)
    · have hp6 : ¬ P = 6 := fun z => c24 (by rw [z]; rfl)
      have hz : zAdd F P rank = (nI P, some (upd (upd F (6 + P) rank) 0 (nI (P + 1)))) := (if_neg hr2).trans (if_neg hp6)
      refine lv_aload_n hx hb dX2_addPerson_30 rfl (lv_at hl 0 rfl) ?_
      refine t_get M hA hR 1 (by decide) q1040 rfl rfl dX2_addPerson_31 ?_
      refine lv_bipush (v := (6 : Int32)) hx hb dX2_addPerson_34 (by decide) ?_
      refine lv_aload_n hx hb dX2_addPerson_36 rfl (lv_at hl 0 rfl) ?_
      refine t_get M hA hR 1 (by decide) q1040 rfl rfl dX2_addPerson_37 ?_
      refine lv_iconst (v := (0 : Int32)) hx hb dX2_addPerson_40 (by decide) ?_
      refine t_aldE M hA ((congrFun hF 0).trans ok.hP) hR (by decide) rfl (by decide) dX2_addPerson_41 ?_
      refine lv_iadd hx hb dX2_addPerson_42 ?_
      refine lv_iload_n hx hb dX2_addPerson_43 rfl (lv_at hl 1 rfl) ?_
      refine t_astQ M hA hR hS 1 (by decide) (by first | assumption | rfl) (6 + P) (nI_add 6 P) (by show 6 + P < 292; omega) dX2_addPerson_44 (fun V44 H locs hq44 hw44 hR hS => ?_)
      have hF := hw44
      refine lv_aload_n hx hb dX2_addPerson_45 rfl (lv_at hl 0 rfl) ?_
      refine t_get M hA hR 1 (by decide) q1040 rfl rfl dX2_addPerson_46 ?_
      refine lv_iconst (v := (0 : Int32)) hx hb dX2_addPerson_49 (by decide) ?_
      refine lv_dup2_11 hx hb dX2_addPerson_50 rfl rfl ?_
      refine t_aldE M hA ((congrFun hF 0).trans ((up_lo (by omega)).trans ok.hP)) hR (by decide) rfl (by decide) dX2_addPerson_51 ?_
      refine lv_iconst (v := (1 : Int32)) hx hb dX2_addPerson_52 (by decide) ?_
      refine lv_iadd hx hb dX2_addPerson_53 ?_
      refine g_topi (nI (P + 1)) (nI_1 P) ?_
      refine t_astQ M hA hR hS 1 (by decide) (by first | assumption | rfl) 0 rfl (by decide) dX2_addPerson_54 (fun V54 H locs hq54 hw54 hR hS => ?_)
      have hF := hw54
      refine lv_aload_n hx hb dX2_addPerson_55 rfl (lv_at hl 0 rfl) ?_
      refine lv_aload_n hx hb dX2_addPerson_56 rfl (lv_at hl 0 rfl) ?_
      refine t_get M hA hR 1 (by decide) q1040 rfl rfl dX2_addPerson_57 ?_
      refine lv_iconst (v := (0 : Int32)) hx hb dX2_addPerson_60 (by decide) ?_
      refine t_aldE M hA ((congrFun hF 0).trans up_at) hR (by decide) rfl (by decide) dX2_addPerson_61 ?_
      refine lv_iconst (v := (1 : Int32)) hx hb dX2_addPerson_62 (by decide) ?_
      refine lv_isub hx hb dX2_addPerson_63 ?_
      refine g_topi (nI P) (nI_pred P) ?_
      have hput9 := (hq54.arr (by decide)).trans ((hq44.arr (by decide)).trans (hput))
      have ha9 := (hq54.fld (by decide)).trans ((hq44.fld (by decide)).trans ((hs1.fld (by decide)).trans (ha)))
      refine g_ki (g_V (As := [_]) M hR hS (c_X2_acted l K hA hput9 a ha9 ha4 _) (lw_V q1101 q1103 qs23 q73 q1104) 1 md_X2_acted rfl ⟨rfl, rfl⟩ ⟨Nat.le_of_ble_eq_true rfl, Nat.le_of_ble_eq_true rfl⟩ (hR.recv M (tG_0 hA) rfl) rfl hl.1 rfl (lv_room (Nat.le_of_ble_eq_true rfl)) dX2_addPerson_64 ⟨(by first | exact Nat.le_refl _ | exact Nat.zero_le _ | (dsimp only; omega)), (by first | exact Nat.le_refl _ | exact Nat.zero_le _ | (dsimp only; omega))⟩) hS (fun r64 G64 H locs hp64 hR hS => ?_)
      obtain ⟨rfl, V64, rfl, hs64, hact⟩ := hp64
      exact g_iret M hr hlk hR hS (by omega) (by omega) dX2_addPerson_67 (⟨(congrArg Prod.fst hz).symm, _, rfl, by rw [hz]; exact ⟨(tQ.trans (tQ.trans (tQ.trans (tQ.trans tQ.rf hs1 (by decide)) hq44 (by decide)) hq54 (by decide)) hs64 (by decide)), (hs64.arr (by decide)).trans hF, hact.from ((hq54.arr (by decide)).trans ((hq44.arr (by decide)).trans ((hs1.arr (by decide)).trans (rfl))))⟩⟩)
    · have hz : zAdd F P rank = (-3, none) := (if_neg hr2).trans (if_pos ((nI_eq (by omega) (by decide : 6 < 2 ^ 31)).mp c24))
      refine lv_bipush (v := ((-3) : Int32)) hx hb dX2_addPerson_27 (by decide) ?_
      exact g_iret M hr hlk hR hS (by omega) (by omega) dX2_addPerson_29 (⟨(congrArg Prod.fst hz).symm, _, rfl, by rw [hz]; exact ⟨(tQ.trans tQ.rf hs1 (by decide)), hF⟩⟩)
  · have hz : zAdd F P rank = (-2, none) := if_pos (bI_0.mp c10)
    refine lv_bipush (v := ((-2) : Int32)) hx hb dX2_addPerson_13 (by decide) ?_
    exact g_iret M hr hlk hR hS (by omega) (by omega) dX2_addPerson_15 (⟨(congrArg Prod.fst hz).symm, _, rfl, by rw [hz]; exact ⟨(tQ.trans tQ.rf hs1 (by decide)), hF⟩⟩)

theorem md_X2_setRank : gMd yX2_setRank 2 := by
  unfold gMd
  decide +kernel
set_option maxHeartbeats 4000000 in
set_option maxRecDepth 100000 in
theorem c_X2_setRank (l : Launch) (K : gK) {G0 : gG} {A : Nat → Nat} {V : tV} {F : Nat → Int32} (hA : tInj A) (hF : V.2.1 1 = F) (p9 rank : Int32) (a : Nat) (ha : V.1 6 = nI a) (ha4 : a ≤ 4) {P N : Nat} (ok : fOk F P N) : Met l yX2_setRank (ws_ yX2_setRank cX2_setRank 4 (Option.some Jvm.ClassFile.FieldType.int)) (gRm 2 0 0 43) (gPre K [.ref (A 0), .int p9, .int rank] (tG K G0 A V)) (gQi K (fun r G1 => r = (zRnk F p9 rank).1 ∧ ∃ V1, G1 = tG K G0 A V1 ∧ tDo V V1 F a (zRnk F p9 rank).2)) 0 0 (gA K) := by
  refine g_met (by decide) (Nat.le_of_ble_eq_true rfl) ?_
  intro p e s m below meth c M hr hlk hnm hR ls hl
  have M : gM K p s m _ c cX2_setRank 4 RX2 := M
  have hx := M.hx
  have hb := M.hb
  have hS : va_S (gA K) s.heap s.heap [] := va_S.rf
  have hl : lv_has ls 4 [(0, .ref (A 0)), (1, .int p9), (2, .int rank)] := hl
  have hF0 := hF
  have hN := ok.hN
  have hN2 := ok.hN2
  refine lv_aload_n hx hb dX2_setRank_0 rfl (lv_at hl 0 rfl) ?_
  refine g_kv (g_V (As := []) M hR hS (c_X2_aside l K hA (by first | assumption | rfl)) (lw_V q1094 q1096 qs22 q73 q1097) 0 md_X2_aside rfl ⟨rfl, rfl⟩ ⟨Nat.le_of_ble_eq_true rfl, Nat.le_of_ble_eq_true rfl⟩ (hR.recv M (tG_0 hA) rfl) rfl hl.1 rfl (lv_room (Nat.le_of_ble_eq_true rfl)) dX2_setRank_1 ⟨(by first | exact Nat.le_refl _ | exact Nat.zero_le _ | (dsimp only; omega)), (by first | exact Nat.le_refl _ | exact Nat.zero_le _ | (dsimp only; omega))⟩) hS (fun G1 H locs hp1 hR hS => ?_)
  obtain ⟨V1, rfl, hs1, hput⟩ := hp1
  have hF := hs1.row hF (by decide)
  refine lv_aload_n hx hb dX2_setRank_4 rfl (lv_at hl 0 rfl) ?_
  refine lv_iload_n hx hb dX2_setRank_5 rfl (lv_at hl 1 rfl) ?_
  refine g_ki (g_V (As := [_]) M hR hS (c_X2_isPerson l K hA (by first | assumption | rfl) _) (lw_V q1109 q1111 qs24 q73 q1112) 1 md_X2_isPerson rfl ⟨rfl, rfl⟩ ⟨Nat.le_of_ble_eq_true rfl, Nat.le_of_ble_eq_true rfl⟩ (hR.recv M (tG_0 hA) rfl) rfl hl.1 rfl (lv_room (Nat.le_of_ble_eq_true rfl)) dX2_setRank_6 ⟨(by first | exact Nat.le_refl _ | exact Nat.zero_le _ | (dsimp only; omega)), (by first | exact Nat.le_refl _ | exact Nat.zero_le _ | (dsimp only; omega))⟩) hS (fun r6 G6 H locs hp6 hR hS => ?_)
  obtain ⟨rfl, rfl⟩ := hp6
  refine lv_if_ne (tgt := 14) hx hb dX2_setRank_9 (by decide) (fun c9 => ?_) (fun c9 => ?_)
  · have ho1 := bI_n0.mp c9
    have hP6 := ok.hP6
    obtain ⟨o9, ho9, rfl⟩ := fIn_nI (by rw [← ok.hP]; exact ho1) (by omega)
    have hzo : zN (nI o9) = o9 := zN_k ho9 (by omega)
    have ho2 : ¬ fIn (nI o9) 0 (F 0 - 1) = false := by rw [ho1]; decide
    refine lv_iload_n hx hb dX2_setRank_14 rfl (lv_at hl 2 rfl) ?_
    refine lv_iconst (v := (1 : Int32)) hx hb dX2_setRank_15 (by decide) ?_
    refine lv_iconst (v := (5 : Int32)) hx hb dX2_setRank_16 (by decide) ?_
    refine g_ki (g_S (As := [_, _, _]) M hR hS (c_X2_in l K _ _ _) (lw_S q1098 q1099 q73 q1100) 3 md_X2_in ⟨rfl, rfl⟩ ⟨Nat.le_of_ble_eq_true rfl, Nat.le_of_ble_eq_true rfl⟩ rfl hl.1 rfl (lv_room (Nat.le_of_ble_eq_true rfl)) dX2_setRank_17 ⟨(by first | exact Nat.le_refl _ | exact Nat.zero_le _ | (dsimp only; omega)), (by first | exact Nat.le_refl _ | exact Nat.zero_le _ | (dsimp only; omega))⟩) hS (fun r17 G17 H locs hp17 hR hS => ?_)
    obtain ⟨rfl, e0⟩ := hp17
    rw [e0] at hR
    refine lv_if_ne (tgt := 26) hx hb dX2_setRank_20 (by decide) (fun c20 => ?_) (fun c20 => ?_)
    · have hr2 : ¬ fIn rank 1 5 = false := by rw [bI_n0.mp c20]; decide
      refine lv_aload_n hx hb dX2_setRank_26 rfl (lv_at hl 0 rfl) ?_
      refine t_get M hA hR 1 (by decide) q1040 rfl rfl dX2_setRank_27 ?_
      refine lv_bipush (v := (6 : Int32)) hx hb dX2_setRank_30 (by decide) ?_
      refine lv_iload_n hx hb dX2_setRank_32 rfl (lv_at hl 1 rfl) ?_
      refine lv_iadd hx hb dX2_setRank_33 ?_
      refine t_aldF M hA (by first | assumption | rfl) hR (by decide) (6 + o9) (nI_add 6 o9) (by show 6 + o9 < 292; omega) dX2_setRank_34 ?_
      refine lv_istore_n (lv' := [(3, _), (0, _), (1, _), (2, _)]) hx hb dX2_setRank_35 rfl hl (by decide) rfl (fun ls hl => ?_)
      refine lv_iload_n hx hb dX2_setRank_36 rfl (lv_at hl 0 rfl) ?_
      refine lv_iload_n hx hb dX2_setRank_37 rfl (lv_at hl 3 rfl) ?_
      refine lv_icmp_ne (tgt := 44) hx hb dX2_setRank_38 (by decide) (fun c38 => ?_) (fun c38 => ?_)
      · have hz : zRnk F (nI o9) rank = (F (6 + o9), some (upd F (6 + o9) rank)) := (if_neg ho2).trans ((if_neg hr2).trans (by rw [hzo]; exact if_neg c38))
        refine lv_aload_n hx hb dX2_setRank_44 rfl (lv_at hl 1 rfl) ?_
        refine t_get M hA hR 1 (by decide) q1040 rfl rfl dX2_setRank_45 ?_
        refine lv_bipush (v := (6 : Int32)) hx hb dX2_setRank_48 (by decide) ?_
        refine lv_iload_n hx hb dX2_setRank_50 rfl (lv_at hl 2 rfl) ?_
        refine lv_iadd hx hb dX2_setRank_51 ?_
        refine lv_iload_n hx hb dX2_setRank_52 rfl (lv_at hl 3 rfl) ?_
        refine t_astQ M hA hR hS 1 (by decide) (by first | assumption | rfl) (6 + o9) (nI_add 6 o9) (by show 6 + o9 < 292; omega) dX2_setRank_53 (fun V53 H locs hq53 hw53 hR hS => ?_)
        have hF := hw53
        refine lv_aload_n hx hb dX2_setRank_54 rfl (lv_at hl 1 rfl) ?_
        refine lv_iload_n hx hb dX2_setRank_55 rfl (lv_at hl 0 rfl) ?_
        have hput9 := (hq53.arr (by decide)).trans (hput)
        have ha9 := (hq53.fld (by decide)).trans ((hs1.fld (by decide)).trans (ha))
        refine g_ki (g_V (As := [_]) M hR hS (c_X2_acted l K hA hput9 a ha9 ha4 _) (lw_V q1101 q1103 qs23 q73 q1104) 1 md_X2_acted rfl ⟨rfl, rfl⟩ ⟨Nat.le_of_ble_eq_true rfl, Nat.le_of_ble_eq_true rfl⟩ (hR.recv M (tG_0 hA) rfl) rfl hl.1 rfl (lv_room (Nat.le_of_ble_eq_true rfl)) dX2_setRank_56 ⟨(by first | exact Nat.le_refl _ | exact Nat.zero_le _ | (dsimp only; omega)), (by first | exact Nat.le_refl _ | exact Nat.zero_le _ | (dsimp only; omega))⟩) hS (fun r56 G56 H locs hp56 hR hS => ?_)
        obtain ⟨rfl, V56, rfl, hs56, hact⟩ := hp56
        exact g_iret M hr hlk hR hS (by omega) (by omega) dX2_setRank_59 (⟨(congrArg Prod.fst hz).symm, _, rfl, by rw [hz]; exact ⟨(tQ.trans (tQ.trans (tQ.trans tQ.rf hs1 (by decide)) hq53 (by decide)) hs56 (by decide)), (hs56.arr (by decide)).trans hF, hact.from ((hq53.arr (by decide)).trans ((hs1.arr (by decide)).trans (rfl)))⟩⟩)
      · have hz : zRnk F (nI o9) rank = (-5, none) := (if_neg ho2).trans ((if_neg hr2).trans (by rw [hzo]; exact if_pos c38))
        refine lv_bipush (v := ((-5) : Int32)) hx hb dX2_setRank_41 (by decide) ?_
        exact g_iret M hr hlk hR hS (by omega) (by omega) dX2_setRank_43 (⟨(congrArg Prod.fst hz).symm, _, rfl, by rw [hz]; exact ⟨(tQ.trans tQ.rf hs1 (by decide)), hF⟩⟩)
    · have hz : zRnk F (nI o9) rank = (-2, none) := (if_neg ho2).trans (if_pos (bI_0.mp c20))
      refine lv_bipush (v := ((-2) : Int32)) hx hb dX2_setRank_23 (by decide) ?_
      exact g_iret M hr hlk hR hS (by omega) (by omega) dX2_setRank_25 (⟨(congrArg Prod.fst hz).symm, _, rfl, by rw [hz]; exact ⟨(tQ.trans tQ.rf hs1 (by decide)), hF⟩⟩)
  · have hz : zRnk F p9 rank = (-1, none) := if_pos (bI_0.mp c9)
    refine lv_iconst (v := ((-1) : Int32)) hx hb dX2_setRank_12 (by decide) ?_
    exact g_iret M hr hlk hR hS (by omega) (by omega) dX2_setRank_13 (⟨(congrArg Prod.fst hz).symm, _, rfl, by rw [hz]; exact ⟨(tQ.trans tQ.rf hs1 (by decide)), hF⟩⟩)

theorem md_X2_setTolerance : gMd yX2_setTolerance 1 := by
  unfold gMd
  decide +kernel
set_option maxHeartbeats 4000000 in
set_option maxRecDepth 100000 in
theorem c_X2_setTolerance (l : Launch) (K : gK) {G0 : gG} {A : Nat → Nat} {V : tV} {F : Nat → Int32} (hA : tInj A) (hF : V.2.1 1 = F) (b : Int32) (a : Nat) (ha : V.1 6 = nI a) (ha4 : a ≤ 4) {P N : Nat} (ok : fOk F P N) : Met l yX2_setTolerance (ws_ yX2_setTolerance cX2_setTolerance 2 (Option.some Jvm.ClassFile.FieldType.int)) (gRm 2 0 0 83) (gPre K [.ref (A 0), .int b] (tG K G0 A V)) (gQi K (fun r G1 => r = (zTol F b).1 ∧ ∃ V1, G1 = tG K G0 A V1 ∧ tDo V V1 F a (zTol F b).2)) 0 0 (gA K) := by
  refine g_met (by decide) (Nat.le_of_ble_eq_true rfl) ?_
  intro p e s m below meth c M hr hlk hnm hR ls hl
  have M : gM K p s m _ c cX2_setTolerance 2 RX2 := M
  have hx := M.hx
  have hb := M.hb
  have hS : va_S (gA K) s.heap s.heap [] := va_S.rf
  have hl : lv_has ls 2 [(0, .ref (A 0)), (1, .int b)] := hl
  have hF0 := hF
  have hN := ok.hN
  have hN2 := ok.hN2
  refine lv_aload_n hx hb dX2_setTolerance_0 rfl (lv_at hl 0 rfl) ?_
  refine g_kv (g_V (As := []) M hR hS (c_X2_aside l K hA (by first | assumption | rfl)) (lw_V q1094 q1096 qs22 q73 q1097) 0 md_X2_aside rfl ⟨rfl, rfl⟩ ⟨Nat.le_of_ble_eq_true rfl, Nat.le_of_ble_eq_true rfl⟩ (hR.recv M (tG_0 hA) rfl) rfl hl.1 rfl (lv_room (Nat.le_of_ble_eq_true rfl)) dX2_setTolerance_1 ⟨(by first | exact Nat.le_refl _ | exact Nat.zero_le _ | (dsimp only; omega)), (by first | exact Nat.le_refl _ | exact Nat.zero_le _ | (dsimp only; omega))⟩) hS (fun G1 H locs hp1 hR hS => ?_)
  obtain ⟨V1, rfl, hs1, hput⟩ := hp1
  have hF := hs1.row hF (by decide)
  refine lv_iload_n hx hb dX2_setTolerance_4 rfl (lv_at hl 1 rfl) ?_
  refine lv_if_lt (tgt := 18) hx hb dX2_setTolerance_5 (by decide) (fun c5 => ?_) (fun c5 => ?_)
  · have hz : zTol F b = (-2, none) := if_pos (Or.inl c5)
    refine lv_bipush (v := ((-2) : Int32)) hx hb dX2_setTolerance_18 (by decide) ?_
    exact g_iret M hr hlk hR hS (by omega) (by omega) dX2_setTolerance_20 (⟨(congrArg Prod.fst hz).symm, _, rfl, by rw [hz]; exact ⟨(tQ.trans tQ.rf hs1 (by decide)), hF⟩⟩)
  · refine lv_iload_n hx hb dX2_setTolerance_8 rfl (lv_at hl 1 rfl) ?_
    refine lv_fconst0 hx hb dX2_setTolerance_9 ?_
    refine lv_ldcf hx hb M.hown (M.hts _ q1117) dX2_setTolerance_10 ?_
    refine g_ki (g_S (As := [_, _, _]) M hR hS (c_X2_isFrom l K _ _ _) (lw_S q1118 q1119 q73 q1120) 3 md_X2_isFrom ⟨rfl, rfl⟩ ⟨Nat.le_of_ble_eq_true rfl, Nat.le_of_ble_eq_true rfl⟩ rfl hl.1 rfl (lv_room (Nat.le_of_ble_eq_true rfl)) dX2_setTolerance_12 ⟨(by first | exact Nat.le_refl _ | exact Nat.zero_le _ | (dsimp only; omega)), (by first | exact Nat.le_refl _ | exact Nat.zero_le _ | (dsimp only; omega))⟩) hS (fun r12 G12 H locs hp12 hR hS => ?_)
    obtain ⟨rfl, e0⟩ := hp12
    rw [e0] at hR
    refine lv_if_ne (tgt := 21) hx hb dX2_setTolerance_15 (by decide) (fun c15 => ?_) (fun c15 => ?_)
    · have ht2 : ¬ (b < 0 ∨ fFrom b 0 1120403456 = false) := fun z => z.elim c5 (fun y => c15 (bI_0.mpr y))
      refine lv_aload_n hx hb dX2_setTolerance_21 rfl (lv_at hl 0 rfl) ?_
      refine t_get M hA hR 1 (by decide) q1040 rfl rfl dX2_setTolerance_22 ?_
      refine lv_iconst (v := (5 : Int32)) hx hb dX2_setTolerance_25 (by decide) ?_
      refine t_aldF M hA (by first | assumption | rfl) hR (by decide) 5 rfl (by decide) dX2_setTolerance_26 ?_
      refine lv_iload_n hx hb dX2_setTolerance_27 rfl (lv_at hl 1 rfl) ?_
      refine lv_icmp_ne (tgt := 34) hx hb dX2_setTolerance_28 (by decide) (fun c28 => ?_) (fun c28 => ?_)
      · have hz : zTol F b = (1, some (upd F 5 b)) := (if_neg ht2).trans (if_neg c28)
        refine lv_aload_n hx hb dX2_setTolerance_34 rfl (lv_at hl 0 rfl) ?_
        refine t_get M hA hR 1 (by decide) q1040 rfl rfl dX2_setTolerance_35 ?_
        refine lv_iconst (v := (5 : Int32)) hx hb dX2_setTolerance_38 (by decide) ?_
        refine lv_iload_n hx hb dX2_setTolerance_39 rfl (lv_at hl 1 rfl) ?_
        refine t_astQ M hA hR hS 1 (by decide) (by first | assumption | rfl) 5 rfl (by decide) dX2_setTolerance_40 (fun V40 H locs hq40 hw40 hR hS => ?_)
        have hF := hw40
        refine lv_aload_n hx hb dX2_setTolerance_41 rfl (lv_at hl 0 rfl) ?_
        refine lv_iconst (v := (1 : Int32)) hx hb dX2_setTolerance_42 (by decide) ?_
        have hput9 := (hq40.arr (by decide)).trans (hput)
        have ha9 := (hq40.fld (by decide)).trans ((hs1.fld (by decide)).trans (ha))
        refine g_ki (g_V (As := [_]) M hR hS (c_X2_acted l K hA hput9 a ha9 ha4 _) (lw_V q1101 q1103 qs23 q73 q1104) 1 md_X2_acted rfl ⟨rfl, rfl⟩ ⟨Nat.le_of_ble_eq_true rfl, Nat.le_of_ble_eq_true rfl⟩ (hR.recv M (tG_0 hA) rfl) rfl hl.1 rfl (lv_room (Nat.le_of_ble_eq_true rfl)) dX2_setTolerance_43 ⟨(by first | exact Nat.le_refl _ | exact Nat.zero_le _ | (dsimp only; omega)), (by first | exact Nat.le_refl _ | exact Nat.zero_le _ | (dsimp only; omega))⟩) hS (fun r43 G43 H locs hp43 hR hS => ?_)
        obtain ⟨rfl, V43, rfl, hs43, hact⟩ := hp43
        exact g_iret M hr hlk hR hS (by omega) (by omega) dX2_setTolerance_46 (⟨(congrArg Prod.fst hz).symm, _, rfl, by rw [hz]; exact ⟨(tQ.trans (tQ.trans (tQ.trans tQ.rf hs1 (by decide)) hq40 (by decide)) hs43 (by decide)), (hs43.arr (by decide)).trans hF, hact.from ((hq40.arr (by decide)).trans ((hs1.arr (by decide)).trans (rfl)))⟩⟩)
      · have hz : zTol F b = (-5, none) := (if_neg ht2).trans (if_pos c28)
        refine lv_bipush (v := ((-5) : Int32)) hx hb dX2_setTolerance_31 (by decide) ?_
        exact g_iret M hr hlk hR hS (by omega) (by omega) dX2_setTolerance_33 (⟨(congrArg Prod.fst hz).symm, _, rfl, by rw [hz]; exact ⟨(tQ.trans tQ.rf hs1 (by decide)), hF⟩⟩)
    · have hz : zTol F b = (-2, none) := if_pos (Or.inr (bI_0.mp c15))
      refine lv_bipush (v := ((-2) : Int32)) hx hb dX2_setTolerance_18 (by decide) ?_
      exact g_iret M hr hlk hR hS (by omega) (by omega) dX2_setTolerance_20 (⟨(congrArg Prod.fst hz).symm, _, rfl, by rw [hz]; exact ⟨(tQ.trans tQ.rf hs1 (by decide)), hF⟩⟩)

theorem md_X2_nail : gMd yX2_nail 4 := by
  unfold gMd
  decide +kernel
set_option maxHeartbeats 4000000 in
set_option maxRecDepth 100000 in
theorem c_X2_nail (l : Launch) (K : gK) {G0 : gG} {A : Nat → Nat} {V : tV} {F : Nat → Int32} (hA : tInj A) (hF : V.2.1 1 = F) (p9 w num str : Int32) (a : Nat) (ha : V.1 6 = nI a) (ha4 : a ≤ 4) {P N : Nat} (ok : fOk F P N) : Met l yX2_nail (ws_ yX2_nail cX2_nail 6 (Option.some Jvm.ClassFile.FieldType.int)) (gRm 4 0 0 130) (gPre K [.ref (A 0), .int p9, .int w, .int num, .int str] (tG K G0 A V)) (gQi K (fun r G1 => r = (zNl F N p9 w (-5) 1065353216 num str).1 ∧ ∃ V1, G1 = tG K G0 A V1 ∧ tDo V V1 F a (zNl F N p9 w (-5) 1065353216 num str).2)) 0 0 (gA K) := by
  refine g_met (by decide) (Nat.le_of_ble_eq_true rfl) ?_
  intro p e s m below meth c M hr hlk hnm hR ls hl
  have M : gM K p s m _ c cX2_nail 6 RX2 := M
  have hx := M.hx
  have hb := M.hb
  have hS : va_S (gA K) s.heap s.heap [] := va_S.rf
  have hl : lv_has ls 6 [(0, .ref (A 0)), (1, .int p9), (2, .int w), (3, .int num), (4, .int str)] := hl
  have hF0 := hF
  have hN := ok.hN
  have hN2 := ok.hN2
  refine lv_aload_n hx hb dX2_nail_0 rfl (lv_at hl 0 rfl) ?_
  refine g_kv (g_V (As := []) M hR hS (c_X2_aside l K hA (by first | assumption | rfl)) (lw_V q1094 q1096 qs22 q73 q1097) 0 md_X2_aside rfl ⟨rfl, rfl⟩ ⟨Nat.le_of_ble_eq_true rfl, Nat.le_of_ble_eq_true rfl⟩ (hR.recv M (tG_0 hA) rfl) rfl hl.1 rfl (lv_room (Nat.le_of_ble_eq_true rfl)) dX2_nail_1 ⟨(by first | exact Nat.le_refl _ | exact Nat.zero_le _ | (dsimp only; omega)), (by first | exact Nat.le_refl _ | exact Nat.zero_le _ | (dsimp only; omega))⟩) hS (fun G1 H locs hp1 hR hS => ?_)
  obtain ⟨V1, rfl, hs1, hput⟩ := hp1
  have hF := hs1.row hF (by decide)
  refine lv_aload_n hx hb dX2_nail_4 rfl (lv_at hl 0 rfl) ?_
  refine lv_iload_n hx hb dX2_nail_5 rfl (lv_at hl 1 rfl) ?_
  refine lv_iload_n hx hb dX2_nail_6 rfl (lv_at hl 2 rfl) ?_
  refine lv_bipush (v := ((-5) : Int32)) hx hb dX2_nail_7 (by decide) ?_
  refine g_ki (g_S (As := []) M hR hS (c_X2_one l K ) (lw_S q1128 q1129 q73 q1130) 0 md_X2_one ⟨rfl, rfl⟩ ⟨Nat.le_of_ble_eq_true rfl, Nat.le_of_ble_eq_true rfl⟩ rfl hl.1 rfl (lv_room (Nat.le_of_ble_eq_true rfl)) dX2_nail_9 ⟨(by first | exact Nat.le_refl _ | exact Nat.zero_le _ | (dsimp only; omega)), (by first | exact Nat.le_refl _ | exact Nat.zero_le _ | (dsimp only; omega))⟩) hS (fun r9 G9 H locs hp9 hR hS => ?_)
  obtain ⟨rfl, e0⟩ := hp9
  rw [e0] at hR
  refine lv_iload_n hx hb dX2_nail_12 rfl (lv_at hl 3 rfl) ?_
  refine lv_iload hx hb dX2_nail_13 (lv_at hl 4 rfl) ?_
  refine g_ki (g_V (As := [_, _, _, _, _, _]) M hR hS (c_X2_nails l K hA (by first | assumption | rfl) p9 w (-5) 1065353216 num str ok) (lw_V q1132 q1134 qs25 q73 q1135) 6 md_X2_nails rfl ⟨rfl, rfl⟩ ⟨Nat.le_of_ble_eq_true rfl, Nat.le_of_ble_eq_true rfl⟩ (hR.recv M (tG_0 hA) rfl) rfl hl.1 rfl (lv_room (Nat.le_of_ble_eq_true rfl)) dX2_nail_15 ⟨(by first | exact Nat.le_refl _ | exact Nat.zero_le _ | (dsimp only; omega)), (by first | exact Nat.le_refl _ | exact Nat.zero_le _ | (dsimp only; omega))⟩) hS (fun r15 G15 H locs hp15 hR hS => ?_)
  obtain ⟨rfl, V15, rfl, hs15, hF⟩ := hp15
  refine lv_istore (lv' := [(5, _), (0, _), (1, _), (2, _), (3, _), (4, _)]) hx hb dX2_nail_18 hl (by decide) rfl (fun ls hl => ?_)
  refine lv_iload hx hb dX2_nail_20 (lv_at hl 0 rfl) ?_
  refine lv_if_ge (tgt := 30) hx hb dX2_nail_22 (by decide) (fun c22 => ?_) (fun c22 => ?_)
  · have hneg : ¬ fNr F N p9 w (-5) 1065353216 num str < 0 := Int32.not_lt.mpr c22
    have hz : zNl F N p9 w (-5) 1065353216 num str = (fNr F N p9 w (-5) 1065353216 num str, some (fNl F N p9 w (-5) 1065353216 num str)) := by unfold zNl; rw [if_neg hneg]
    have hF := hF.trans (if_neg hneg : fNw F N p9 w (-5) 1065353216 num str = fNl F N p9 w (-5) 1065353216 num str)
    have hput9 := (hs15.arr (by decide)).trans (hput)
    have ha9 := (hs15.fld (by decide)).trans ((hs1.fld (by decide)).trans (ha))
    refine lv_aload_n hx hb dX2_nail_30 rfl (lv_at hl 1 rfl) ?_
    refine lv_iload hx hb dX2_nail_31 (lv_at hl 0 rfl) ?_
    refine g_ki (g_V (As := [_]) M hR hS (c_X2_acted l K hA hput9 a ha9 ha4 _) (lw_V q1101 q1103 qs23 q73 q1104) 1 md_X2_acted rfl ⟨rfl, rfl⟩ ⟨Nat.le_of_ble_eq_true rfl, Nat.le_of_ble_eq_true rfl⟩ (hR.recv M (tG_0 hA) rfl) rfl hl.1 rfl (lv_room (Nat.le_of_ble_eq_true rfl)) dX2_nail_33 ⟨(by first | exact Nat.le_refl _ | exact Nat.zero_le _ | (dsimp only; omega)), (by first | exact Nat.le_refl _ | exact Nat.zero_le _ | (dsimp only; omega))⟩) hS (fun r33 G33 H locs hp33 hR hS => ?_)
    obtain ⟨rfl, V33, rfl, hs33, hact⟩ := hp33
    exact g_iret M hr hlk hR hS (by omega) (by omega) dX2_nail_36 (⟨(congrArg Prod.fst hz).symm, _, rfl, by rw [hz]; exact ⟨(tQ.trans (tQ.trans (tQ.trans tQ.rf hs1 (by decide)) hs15 (by decide)) hs33 (by decide)), (hs33.arr (by decide)).trans hF, hact.from ((hs15.arr (by decide)).trans ((hs1.arr (by decide)).trans (rfl)))⟩⟩)
  · have hneg : fNr F N p9 w (-5) 1065353216 num str < 0 := Int32.not_le.mp c22
    have hz : zNl F N p9 w (-5) 1065353216 num str = (fNr F N p9 w (-5) 1065353216 num str, none) := by unfold zNl; rw [if_pos hneg]
    have hF := hF.trans (if_pos hneg : fNw F N p9 w (-5) 1065353216 num str = F)
    refine lv_iload hx hb dX2_nail_25 (lv_at hl 0 rfl) ?_
    refine lv_goto (tgt := 36) hx hb dX2_nail_27 (by decide) ?_
    exact g_iret M hr hlk hR hS (by omega) (by omega) dX2_nail_36 (⟨(congrArg Prod.fst hz).symm, _, rfl, by rw [hz]; exact ⟨(tQ.trans (tQ.trans tQ.rf hs1 (by decide)) hs15 (by decide)), hF⟩⟩)

theorem md_X2_nailLink : gMd yX2_nailLink 6 := by
  unfold gMd
  decide +kernel
set_option maxHeartbeats 4000000 in
set_option maxRecDepth 100000 in
theorem c_X2_nailLink (l : Launch) (K : gK) {G0 : gG} {A : Nat → Nat} {V : tV} {F : Nat → Int32} (hA : tInj A) (hF : V.2.1 1 = F) (p9 w other fac num str : Int32) (a : Nat) (ha : V.1 6 = nI a) (ha4 : a ≤ 4) {P N : Nat} (ok : fOk F P N) : Met l yX2_nailLink (ws_ yX2_nailLink cX2_nailLink 8 (Option.some Jvm.ClassFile.FieldType.int)) (gRm 4 0 0 130) (gPre K [.ref (A 0), .int p9, .int w, .int other, .int fac, .int num, .int str] (tG K G0 A V)) (gQi K (fun r G1 => r = (zLnk F N p9 w other fac num str).1 ∧ ∃ V1, G1 = tG K G0 A V1 ∧ tDo V V1 F a (zLnk F N p9 w other fac num str).2)) 0 0 (gA K) := by
  refine g_met (by decide) (Nat.le_of_ble_eq_true rfl) ?_
  intro p e s m below meth c M hr hlk hnm hR ls hl
  have M : gM K p s m _ c cX2_nailLink 8 RX2 := M
  have hx := M.hx
  have hb := M.hb
  have hS : va_S (gA K) s.heap s.heap [] := va_S.rf
  have hl : lv_has ls 8 [(0, .ref (A 0)), (1, .int p9), (2, .int w), (3, .int other), (4, .int fac), (5, .int num), (6, .int str)] := hl
  have hF0 := hF
  have hN := ok.hN
  have hN2 := ok.hN2
  refine lv_aload_n hx hb dX2_nailLink_0 rfl (lv_at hl 0 rfl) ?_
  refine g_kv (g_V (As := []) M hR hS (c_X2_aside l K hA (by first | assumption | rfl)) (lw_V q1094 q1096 qs22 q73 q1097) 0 md_X2_aside rfl ⟨rfl, rfl⟩ ⟨Nat.le_of_ble_eq_true rfl, Nat.le_of_ble_eq_true rfl⟩ (hR.recv M (tG_0 hA) rfl) rfl hl.1 rfl (lv_room (Nat.le_of_ble_eq_true rfl)) dX2_nailLink_1 ⟨(by first | exact Nat.le_refl _ | exact Nat.zero_le _ | (dsimp only; omega)), (by first | exact Nat.le_refl _ | exact Nat.zero_le _ | (dsimp only; omega))⟩) hS (fun G1 H locs hp1 hR hS => ?_)
  obtain ⟨V1, rfl, hs1, hput⟩ := hp1
  have hF := hs1.row hF (by decide)
  refine lv_aload_n hx hb dX2_nailLink_4 rfl (lv_at hl 0 rfl) ?_
  refine lv_iload_n hx hb dX2_nailLink_5 rfl (lv_at hl 1 rfl) ?_
  refine lv_iload_n hx hb dX2_nailLink_6 rfl (lv_at hl 2 rfl) ?_
  refine lv_iload_n hx hb dX2_nailLink_7 rfl (lv_at hl 3 rfl) ?_
  refine g_ki (g_S (As := [_]) M hR hS (c_X2_isWord l K _) (lw_S q1136 q1137 q73 q1138) 1 md_X2_isWord ⟨rfl, rfl⟩ ⟨Nat.le_of_ble_eq_true rfl, Nat.le_of_ble_eq_true rfl⟩ rfl hl.1 rfl (lv_room (Nat.le_of_ble_eq_true rfl)) dX2_nailLink_8 ⟨(by first | exact Nat.le_refl _ | exact Nat.zero_le _ | (dsimp only; omega)), (by first | exact Nat.le_refl _ | exact Nat.zero_le _ | (dsimp only; omega))⟩) hS (fun r8 G8 H locs hp8 hR hS => ?_)
  obtain ⟨rfl, e0⟩ := hp8
  rw [e0] at hR
  refine lv_if_eq (tgt := 18) hx hb dX2_nailLink_11 (by decide) (fun c11 => ?_) (fun c11 => ?_)
  · refine lv_bipush (v := (16 : Int32)) hx hb dX2_nailLink_18 (by decide) ?_
    refine g_topi (if fIn other 0 15 = true then other else 16) ((if_neg (by rw [bI_0.mp c11]; decide)).symm) ?_
    refine lv_iload hx hb dX2_nailLink_20 (lv_at hl 4 rfl) ?_
    refine lv_iload hx hb dX2_nailLink_22 (lv_at hl 5 rfl) ?_
    refine lv_iload hx hb dX2_nailLink_24 (lv_at hl 6 rfl) ?_
    refine g_ki (g_V (As := [_, _, _, _, _, _]) M hR hS (c_X2_nails l K hA (by first | assumption | rfl) p9 w (if fIn other 0 15 = true then other else 16) fac num str ok) (lw_V q1132 q1134 qs25 q73 q1135) 6 md_X2_nails rfl ⟨rfl, rfl⟩ ⟨Nat.le_of_ble_eq_true rfl, Nat.le_of_ble_eq_true rfl⟩ (hR.recv M (tG_0 hA) rfl) rfl hl.1 rfl (lv_room (Nat.le_of_ble_eq_true rfl)) dX2_nailLink_26 ⟨(by first | exact Nat.le_refl _ | exact Nat.zero_le _ | (dsimp only; omega)), (by first | exact Nat.le_refl _ | exact Nat.zero_le _ | (dsimp only; omega))⟩) hS (fun r26 G26 H locs hp26 hR hS => ?_)
    obtain ⟨rfl, V26, rfl, hs26, hF⟩ := hp26
    refine lv_istore (lv' := [(7, _), (0, _), (1, _), (2, _), (3, _), (4, _), (5, _), (6, _)]) hx hb dX2_nailLink_29 hl (by decide) rfl (fun ls hl => ?_)
    refine lv_iload hx hb dX2_nailLink_31 (lv_at hl 0 rfl) ?_
    refine lv_if_ge (tgt := 41) hx hb dX2_nailLink_33 (by decide) (fun c33 => ?_) (fun c33 => ?_)
    · have hneg : ¬ fNr F N p9 w (if fIn other 0 15 = true then other else 16) fac num str < 0 := Int32.not_lt.mpr c33
      have hz : zLnk F N p9 w other fac num str = (fNr F N p9 w (if fIn other 0 15 = true then other else 16) fac num str, some (fNl F N p9 w (if fIn other 0 15 = true then other else 16) fac num str)) := by unfold zLnk zNl; rw [if_neg hneg]
      have hF := hF.trans (if_neg hneg : fNw F N p9 w (if fIn other 0 15 = true then other else 16) fac num str = fNl F N p9 w (if fIn other 0 15 = true then other else 16) fac num str)
      have hput9 := (hs26.arr (by decide)).trans (hput)
      have ha9 := (hs26.fld (by decide)).trans ((hs1.fld (by decide)).trans (ha))
      refine lv_aload_n hx hb dX2_nailLink_41 rfl (lv_at hl 1 rfl) ?_
      refine lv_iload hx hb dX2_nailLink_42 (lv_at hl 0 rfl) ?_
      refine g_ki (g_V (As := [_]) M hR hS (c_X2_acted l K hA hput9 a ha9 ha4 _) (lw_V q1101 q1103 qs23 q73 q1104) 1 md_X2_acted rfl ⟨rfl, rfl⟩ ⟨Nat.le_of_ble_eq_true rfl, Nat.le_of_ble_eq_true rfl⟩ (hR.recv M (tG_0 hA) rfl) rfl hl.1 rfl (lv_room (Nat.le_of_ble_eq_true rfl)) dX2_nailLink_44 ⟨(by first | exact Nat.le_refl _ | exact Nat.zero_le _ | (dsimp only; omega)), (by first | exact Nat.le_refl _ | exact Nat.zero_le _ | (dsimp only; omega))⟩) hS (fun r44 G44 H locs hp44 hR hS => ?_)
      obtain ⟨rfl, V44, rfl, hs44, hact⟩ := hp44
      exact g_iret M hr hlk hR hS (by omega) (by omega) dX2_nailLink_47 (⟨(congrArg Prod.fst hz).symm, _, rfl, by rw [hz]; exact ⟨(tQ.trans (tQ.trans (tQ.trans tQ.rf hs1 (by decide)) hs26 (by decide)) hs44 (by decide)), (hs44.arr (by decide)).trans hF, hact.from ((hs26.arr (by decide)).trans ((hs1.arr (by decide)).trans (rfl)))⟩⟩)
    · have hneg : fNr F N p9 w (if fIn other 0 15 = true then other else 16) fac num str < 0 := Int32.not_le.mp c33
      have hz : zLnk F N p9 w other fac num str = (fNr F N p9 w (if fIn other 0 15 = true then other else 16) fac num str, none) := by unfold zLnk zNl; rw [if_pos hneg]
      have hF := hF.trans (if_pos hneg : fNw F N p9 w (if fIn other 0 15 = true then other else 16) fac num str = F)
      refine lv_iload hx hb dX2_nailLink_36 (lv_at hl 0 rfl) ?_
      refine lv_goto (tgt := 47) hx hb dX2_nailLink_38 (by decide) ?_
      exact g_iret M hr hlk hR hS (by omega) (by omega) dX2_nailLink_47 (⟨(congrArg Prod.fst hz).symm, _, rfl, by rw [hz]; exact ⟨(tQ.trans (tQ.trans tQ.rf hs1 (by decide)) hs26 (by decide)), hF⟩⟩)
  · refine lv_iload_n hx hb dX2_nailLink_14 rfl (lv_at hl 3 rfl) ?_
    refine lv_goto (tgt := 20) hx hb dX2_nailLink_15 (by decide) ?_
    refine g_topi (if fIn other 0 15 = true then other else 16) ((if_pos (bI_n0.mp c11)).symm) ?_
    refine lv_iload hx hb dX2_nailLink_20 (lv_at hl 4 rfl) ?_
    refine lv_iload hx hb dX2_nailLink_22 (lv_at hl 5 rfl) ?_
    refine lv_iload hx hb dX2_nailLink_24 (lv_at hl 6 rfl) ?_
    refine g_ki (g_V (As := [_, _, _, _, _, _]) M hR hS (c_X2_nails l K hA (by first | assumption | rfl) p9 w (if fIn other 0 15 = true then other else 16) fac num str ok) (lw_V q1132 q1134 qs25 q73 q1135) 6 md_X2_nails rfl ⟨rfl, rfl⟩ ⟨Nat.le_of_ble_eq_true rfl, Nat.le_of_ble_eq_true rfl⟩ (hR.recv M (tG_0 hA) rfl) rfl hl.1 rfl (lv_room (Nat.le_of_ble_eq_true rfl)) dX2_nailLink_26 ⟨(by first | exact Nat.le_refl _ | exact Nat.zero_le _ | (dsimp only; omega)), (by first | exact Nat.le_refl _ | exact Nat.zero_le _ | (dsimp only; omega))⟩) hS (fun r26 G26 H locs hp26 hR hS => ?_)
    obtain ⟨rfl, V26, rfl, hs26, hF⟩ := hp26
    refine lv_istore (lv' := [(7, _), (0, _), (1, _), (2, _), (3, _), (4, _), (5, _), (6, _)]) hx hb dX2_nailLink_29 hl (by decide) rfl (fun ls hl => ?_)
    refine lv_iload hx hb dX2_nailLink_31 (lv_at hl 0 rfl) ?_
    refine lv_if_ge (tgt := 41) hx hb dX2_nailLink_33 (by decide) (fun c33 => ?_) (fun c33 => ?_)
    · have hneg : ¬ fNr F N p9 w (if fIn other 0 15 = true then other else 16) fac num str < 0 := Int32.not_lt.mpr c33
      have hz : zLnk F N p9 w other fac num str = (fNr F N p9 w (if fIn other 0 15 = true then other else 16) fac num str, some (fNl F N p9 w (if fIn other 0 15 = true then other else 16) fac num str)) := by unfold zLnk zNl; rw [if_neg hneg]
      have hF := hF.trans (if_neg hneg : fNw F N p9 w (if fIn other 0 15 = true then other else 16) fac num str = fNl F N p9 w (if fIn other 0 15 = true then other else 16) fac num str)
      have hput9 := (hs26.arr (by decide)).trans (hput)
      have ha9 := (hs26.fld (by decide)).trans ((hs1.fld (by decide)).trans (ha))
      refine lv_aload_n hx hb dX2_nailLink_41 rfl (lv_at hl 1 rfl) ?_
      refine lv_iload hx hb dX2_nailLink_42 (lv_at hl 0 rfl) ?_
      refine g_ki (g_V (As := [_]) M hR hS (c_X2_acted l K hA hput9 a ha9 ha4 _) (lw_V q1101 q1103 qs23 q73 q1104) 1 md_X2_acted rfl ⟨rfl, rfl⟩ ⟨Nat.le_of_ble_eq_true rfl, Nat.le_of_ble_eq_true rfl⟩ (hR.recv M (tG_0 hA) rfl) rfl hl.1 rfl (lv_room (Nat.le_of_ble_eq_true rfl)) dX2_nailLink_44 ⟨(by first | exact Nat.le_refl _ | exact Nat.zero_le _ | (dsimp only; omega)), (by first | exact Nat.le_refl _ | exact Nat.zero_le _ | (dsimp only; omega))⟩) hS (fun r44 G44 H locs hp44 hR hS => ?_)
      obtain ⟨rfl, V44, rfl, hs44, hact⟩ := hp44
      exact g_iret M hr hlk hR hS (by omega) (by omega) dX2_nailLink_47 (⟨(congrArg Prod.fst hz).symm, _, rfl, by rw [hz]; exact ⟨(tQ.trans (tQ.trans (tQ.trans tQ.rf hs1 (by decide)) hs26 (by decide)) hs44 (by decide)), (hs44.arr (by decide)).trans hF, hact.from ((hs26.arr (by decide)).trans ((hs1.arr (by decide)).trans (rfl)))⟩⟩)
    · have hneg : fNr F N p9 w (if fIn other 0 15 = true then other else 16) fac num str < 0 := Int32.not_le.mp c33
      have hz : zLnk F N p9 w other fac num str = (fNr F N p9 w (if fIn other 0 15 = true then other else 16) fac num str, none) := by unfold zLnk zNl; rw [if_pos hneg]
      have hF := hF.trans (if_pos hneg : fNw F N p9 w (if fIn other 0 15 = true then other else 16) fac num str = F)
      refine lv_iload hx hb dX2_nailLink_36 (lv_at hl 0 rfl) ?_
      refine lv_goto (tgt := 47) hx hb dX2_nailLink_38 (by decide) ?_
      exact g_iret M hr hlk hR hS (by omega) (by omega) dX2_nailLink_47 (⟨(congrArg Prod.fst hz).symm, _, rfl, by rw [hz]; exact ⟨(tQ.trans (tQ.trans tQ.rf hs1 (by decide)) hs26 (by decide)), hF⟩⟩)

theorem md_X2_tear : gMd yX2_tear 1 := by
  unfold gMd
  decide +kernel
set_option maxHeartbeats 4000000 in
set_option maxRecDepth 100000 in
theorem c_X2_tear (l : Launch) (K : gK) {G0 : gG} {A : Nat → Nat} {V : tV} {F : Nat → Int32} (hA : tInj A) (hF : V.2.1 1 = F) (o : Int32) (a : Nat) (ha : V.1 6 = nI a) (ha4 : a ≤ 4) {P N : Nat} (ok : fOk F P N) : Met l yX2_tear (ws_ yX2_tear cX2_tear 2 (Option.some Jvm.ClassFile.FieldType.int)) (gRm 4 0 0 89) (gPre K [.ref (A 0), .int o] (tG K G0 A V)) (gQi K (fun r G1 => r = (zTear F N o).1 ∧ ∃ V1, G1 = tG K G0 A V1 ∧ tDo V V1 F a (zTear F N o).2)) 0 0 (gA K) := by
  refine g_met (by decide) (Nat.le_of_ble_eq_true rfl) ?_
  intro p e s m below meth c M hr hlk hnm hR ls hl
  have M : gM K p s m _ c cX2_tear 2 RX2 := M
  have hx := M.hx
  have hb := M.hb
  have hS : va_S (gA K) s.heap s.heap [] := va_S.rf
  have hl : lv_has ls 2 [(0, .ref (A 0)), (1, .int o)] := hl
  have hF0 := hF
  have hN := ok.hN
  have hN2 := ok.hN2
  refine lv_aload_n hx hb dX2_tear_0 rfl (lv_at hl 0 rfl) ?_
  refine g_kv (g_V (As := []) M hR hS (c_X2_aside l K hA (by first | assumption | rfl)) (lw_V q1094 q1096 qs22 q73 q1097) 0 md_X2_aside rfl ⟨rfl, rfl⟩ ⟨Nat.le_of_ble_eq_true rfl, Nat.le_of_ble_eq_true rfl⟩ (hR.recv M (tG_0 hA) rfl) rfl hl.1 rfl (lv_room (Nat.le_of_ble_eq_true rfl)) dX2_tear_1 ⟨(by first | exact Nat.le_refl _ | exact Nat.zero_le _ | (dsimp only; omega)), (by first | exact Nat.le_refl _ | exact Nat.zero_le _ | (dsimp only; omega))⟩) hS (fun G1 H locs hp1 hR hS => ?_)
  obtain ⟨V1, rfl, hs1, hput⟩ := hp1
  have hF := hs1.row hF (by decide)
  refine lv_aload_n hx hb dX2_tear_4 rfl (lv_at hl 0 rfl) ?_
  refine lv_iload_n hx hb dX2_tear_5 rfl (lv_at hl 1 rfl) ?_
  refine g_ki (g_V (As := [_]) M hR hS (c_X2_isOrder l K hA (by first | assumption | rfl) _) (lw_V q1165 q1167 qs28 q73 q1168) 1 md_X2_isOrder rfl ⟨rfl, rfl⟩ ⟨Nat.le_of_ble_eq_true rfl, Nat.le_of_ble_eq_true rfl⟩ (hR.recv M (tG_0 hA) rfl) rfl hl.1 rfl (lv_room (Nat.le_of_ble_eq_true rfl)) dX2_tear_6 ⟨(by first | exact Nat.le_refl _ | exact Nat.zero_le _ | (dsimp only; omega)), (by first | exact Nat.le_refl _ | exact Nat.zero_le _ | (dsimp only; omega))⟩) hS (fun r6 G6 H locs hp6 hR hS => ?_)
  obtain ⟨rfl, rfl⟩ := hp6
  refine lv_if_ne (tgt := 14) hx hb dX2_tear_9 (by decide) (fun c9 => ?_) (fun c9 => ?_)
  · have ho1 := bI_n0.mp c9
    obtain ⟨o9, ho9, rfl⟩ := fIn_nI (by rw [← hN]; exact ho1) (by omega)
    have hzo : zN (nI o9) = o9 := zN_k ho9 hN2
    have ho2 : ¬ fIn (nI o9) 0 (F 1 - 1) = false := by rw [ho1]; decide
    refine lv_aload_n hx hb dX2_tear_14 rfl (lv_at hl 0 rfl) ?_
    refine lv_iload_n hx hb dX2_tear_15 rfl (lv_at hl 1 rfl) ?_
    refine g_ki (g_V (As := [_]) M hR hS (c_X2_hangs l K hA (by first | assumption | rfl) o9 (by omega)) (lw_V q1169 q1171 qs29 q73 q1172) 1 md_X2_hangs rfl ⟨rfl, rfl⟩ ⟨Nat.le_of_ble_eq_true rfl, Nat.le_of_ble_eq_true rfl⟩ (hR.recv M (tG_0 hA) rfl) rfl hl.1 rfl (lv_room (Nat.le_of_ble_eq_true rfl)) dX2_tear_16 ⟨(by first | exact Nat.le_refl _ | exact Nat.zero_le _ | (dsimp only; omega)), (by first | exact Nat.le_refl _ | exact Nat.zero_le _ | (dsimp only; omega))⟩) hS (fun r16 G16 H locs hp16 hR hS => ?_)
    obtain ⟨rfl, rfl⟩ := hp16
    refine lv_if_ne (tgt := 25) hx hb dX2_tear_19 (by decide) (fun c19 => ?_) (fun c19 => ?_)
    · have hz : zTear F N (nI o9) = (nI (fCnt (fHf (fTr F o9) (fo F o9 1)) 0 N), some (fTr F o9)) := (if_neg ho2).trans (by rw [hzo]; exact if_neg (by rw [bI_n0.mp c19]; decide))
      refine lv_aload_n hx hb dX2_tear_25 rfl (lv_at hl 0 rfl) ?_
      refine t_get M hA hR 1 (by decide) q1040 rfl rfl dX2_tear_26 ?_
      refine lv_bipush (v := (12 : Int32)) hx hb dX2_tear_29 (by decide) ?_
      refine lv_bipush (v := (7 : Int32)) hx hb dX2_tear_31 (by decide) ?_
      refine lv_iload_n hx hb dX2_tear_33 rfl (lv_at hl 1 rfl) ?_
      refine lv_imul hx hb dX2_tear_34 ?_
      refine lv_iadd hx hb dX2_tear_35 ?_
      refine lv_bipush (v := (6 : Int32)) hx hb dX2_tear_36 (by decide) ?_
      refine lv_iadd hx hb dX2_tear_38 ?_
      refine lv_iconst (v := (0 : Int32)) hx hb dX2_tear_39 (by decide) ?_
      refine t_astQ M hA hR hS 1 (by decide) (by first | assumption | rfl) (12 + 7 * o9 + 6) (ix_o o9 6) (by show _ < 292; omega) dX2_tear_40 (fun V40 H locs hq40 hw40 hR hS => ?_)
      have hF := hw40
      refine lv_aload_n hx hb dX2_tear_41 rfl (lv_at hl 0 rfl) ?_
      refine t_get M hA hR 1 (by decide) q1040 rfl rfl dX2_tear_42 ?_
      refine lv_iconst (v := (3 : Int32)) hx hb dX2_tear_45 (by decide) ?_
      refine lv_dup2_11 hx hb dX2_tear_46 rfl rfl ?_
      refine t_aldE M hA ((congrFun hF 3).trans (up_lo (by omega))) hR (by decide) rfl (by decide) dX2_tear_47 ?_
      refine lv_iconst (v := (1 : Int32)) hx hb dX2_tear_48 (by decide) ?_
      refine lv_iadd hx hb dX2_tear_49 ?_
      refine t_astQ M hA hR hS 1 (by decide) (by first | assumption | rfl) 3 rfl (by decide) dX2_tear_50 (fun V50 H locs hq50 hw50 hR hS => ?_)
      have hF := hw50
      have hF : V50.2.1 1 = fTr F o9 := hF
      have hfo : fo (fTr F o9) o9 1 = fo F o9 1 := by unfold fTr; rw [fo_lo (by decide), fo_up (by decide) (by decide)]; exact if_neg (fun z => absurd z.2 (by decide))
      have hN1 : fTr F o9 1 = nI N := (up_lo (by decide)).trans ((up_lo (by omega)).trans hN)
      refine lv_aload_n hx hb dX2_tear_51 rfl (lv_at hl 0 rfl) ?_
      refine lv_aload_n hx hb dX2_tear_52 rfl (lv_at hl 0 rfl) ?_
      refine lv_aload_n hx hb dX2_tear_53 rfl (lv_at hl 0 rfl) ?_
      refine lv_iload_n hx hb dX2_tear_54 rfl (lv_at hl 1 rfl) ?_
      refine lv_iconst (v := (1 : Int32)) hx hb dX2_tear_55 (by decide) ?_
      refine g_ki (g_V (As := [_, _]) M hR hS (c_X2_of l K hA (by first | assumption | rfl) o9 1 (by omega)) (lw_V q1153 q1155 qs27 q73 q1156) 2 md_X2_of rfl ⟨rfl, rfl⟩ ⟨Nat.le_of_ble_eq_true rfl, Nat.le_of_ble_eq_true rfl⟩ (hR.recv M (tG_0 hA) rfl) rfl hl.1 rfl (lv_room (Nat.le_of_ble_eq_true rfl)) dX2_tear_56 ⟨(by first | exact Nat.le_refl _ | exact Nat.zero_le _ | (dsimp only; omega)), (by first | exact Nat.le_refl _ | exact Nat.zero_le _ | (dsimp only; omega))⟩) hS (fun r56 G56 H locs hp56 hR hS => ?_)
      obtain ⟨rfl, rfl⟩ := hp56
      refine g_topi (fo F o9 1) hfo ?_
      refine lv_iconst (v := (0 : Int32)) hx hb dX2_tear_59 (by decide) ?_
      refine g_ki (g_V (As := [_, _]) M hR hS (c_X2_many l K hA (by first | assumption | rfl) _ 0 hN1 hN2 (by omega)) (lw_V q1173 q1175 qs30 q73 q1176) 2 md_X2_many rfl ⟨rfl, rfl⟩ ⟨Nat.le_of_ble_eq_true rfl, Nat.le_of_ble_eq_true rfl⟩ (hR.recv M (tG_0 hA) rfl) rfl hl.1 rfl (lv_room (Nat.le_of_ble_eq_true rfl)) dX2_tear_60 ⟨(by first | exact Nat.le_refl _ | exact Nat.zero_le _ | (dsimp only; omega)), (by first | exact Nat.le_refl _ | exact Nat.zero_le _ | (dsimp only; omega))⟩) hS (fun r60 G60 H locs hp60 hR hS => ?_)
      obtain ⟨rfl, rfl⟩ := hp60
      have hput9 := (hq50.arr (by decide)).trans ((hq40.arr (by decide)).trans (hput))
      have ha9 := (hq50.fld (by decide)).trans ((hq40.fld (by decide)).trans ((hs1.fld (by decide)).trans (ha)))
      refine g_ki (g_V (As := [_]) M hR hS (c_X2_acted l K hA hput9 a ha9 ha4 _) (lw_V q1101 q1103 qs23 q73 q1104) 1 md_X2_acted rfl ⟨rfl, rfl⟩ ⟨Nat.le_of_ble_eq_true rfl, Nat.le_of_ble_eq_true rfl⟩ (hR.recv M (tG_0 hA) rfl) rfl hl.1 rfl (lv_room (Nat.le_of_ble_eq_true rfl)) dX2_tear_63 ⟨(by first | exact Nat.le_refl _ | exact Nat.zero_le _ | (dsimp only; omega)), (by first | exact Nat.le_refl _ | exact Nat.zero_le _ | (dsimp only; omega))⟩) hS (fun r63 G63 H locs hp63 hR hS => ?_)
      obtain ⟨rfl, V63, rfl, hs63, hact⟩ := hp63
      exact g_iret M hr hlk hR hS (by omega) (by omega) dX2_tear_66 (⟨(congrArg Prod.fst hz).symm, _, rfl, by rw [hz]; exact ⟨(tQ.trans (tQ.trans (tQ.trans (tQ.trans tQ.rf hs1 (by decide)) hq40 (by decide)) hq50 (by decide)) hs63 (by decide)), (hs63.arr (by decide)).trans hF, hact.from ((hq50.arr (by decide)).trans ((hq40.arr (by decide)).trans ((hs1.arr (by decide)).trans (rfl))))⟩⟩)
    · have hz : zTear F N (nI o9) = (-5, none) := (if_neg ho2).trans (if_pos (by rw [hzo]; exact bI_0.mp c19))
      refine lv_bipush (v := ((-5) : Int32)) hx hb dX2_tear_22 (by decide) ?_
      exact g_iret M hr hlk hR hS (by omega) (by omega) dX2_tear_24 (⟨(congrArg Prod.fst hz).symm, _, rfl, by rw [hz]; exact ⟨(tQ.trans tQ.rf hs1 (by decide)), hF⟩⟩)
  · have hz : zTear F N o = (-1, none) := if_pos (bI_0.mp c9)
    refine lv_iconst (v := ((-1) : Int32)) hx hb dX2_tear_12 (by decide) ?_
    exact g_iret M hr hlk hR hS (by omega) (by omega) dX2_tear_13 (⟨(congrArg Prod.fst hz).symm, _, rfl, by rw [hz]; exact ⟨(tQ.trans tQ.rf hs1 (by decide)), hF⟩⟩)

theorem md_X2_hammer : gMd yX2_hammer 1 := by
  unfold gMd
  decide +kernel
set_option maxHeartbeats 4000000 in
set_option maxRecDepth 100000 in
theorem c_X2_hammer (l : Launch) (K : gK) {G0 : gG} {A : Nat → Nat} {V : tV} {F : Nat → Int32} (hA : tInj A) (hF : V.2.1 1 = F) (o : Int32) (a : Nat) (ha : V.1 6 = nI a) (ha4 : a ≤ 4) {P N : Nat} (ok : fOk F P N) : Met l yX2_hammer (ws_ yX2_hammer cX2_hammer 3 (Option.some Jvm.ClassFile.FieldType.int)) (gRm 3 0 0 103) (gPre K [.ref (A 0), .int o] (tG K G0 A V)) (gQi K (fun r G1 => r = (zHam F o).1 ∧ ∃ V1, G1 = tG K G0 A V1 ∧ tDo V V1 F a (zHam F o).2)) 0 0 (gA K) := by
  refine g_met (by decide) (Nat.le_of_ble_eq_true rfl) ?_
  intro p e s m below meth c M hr hlk hnm hR ls hl
  have M : gM K p s m _ c cX2_hammer 3 RX2 := M
  have hx := M.hx
  have hb := M.hb
  have hS : va_S (gA K) s.heap s.heap [] := va_S.rf
  have hl : lv_has ls 3 [(0, .ref (A 0)), (1, .int o)] := hl
  have hF0 := hF
  have hN := ok.hN
  have hN2 := ok.hN2
  refine lv_aload_n hx hb dX2_hammer_0 rfl (lv_at hl 0 rfl) ?_
  refine g_kv (g_V (As := []) M hR hS (c_X2_aside l K hA (by first | assumption | rfl)) (lw_V q1094 q1096 qs22 q73 q1097) 0 md_X2_aside rfl ⟨rfl, rfl⟩ ⟨Nat.le_of_ble_eq_true rfl, Nat.le_of_ble_eq_true rfl⟩ (hR.recv M (tG_0 hA) rfl) rfl hl.1 rfl (lv_room (Nat.le_of_ble_eq_true rfl)) dX2_hammer_1 ⟨(by first | exact Nat.le_refl _ | exact Nat.zero_le _ | (dsimp only; omega)), (by first | exact Nat.le_refl _ | exact Nat.zero_le _ | (dsimp only; omega))⟩) hS (fun G1 H locs hp1 hR hS => ?_)
  obtain ⟨V1, rfl, hs1, hput⟩ := hp1
  have hF := hs1.row hF (by decide)
  refine lv_aload_n hx hb dX2_hammer_4 rfl (lv_at hl 0 rfl) ?_
  refine lv_iload_n hx hb dX2_hammer_5 rfl (lv_at hl 1 rfl) ?_
  refine g_ki (g_V (As := [_]) M hR hS (c_X2_isOrder l K hA (by first | assumption | rfl) _) (lw_V q1165 q1167 qs28 q73 q1168) 1 md_X2_isOrder rfl ⟨rfl, rfl⟩ ⟨Nat.le_of_ble_eq_true rfl, Nat.le_of_ble_eq_true rfl⟩ (hR.recv M (tG_0 hA) rfl) rfl hl.1 rfl (lv_room (Nat.le_of_ble_eq_true rfl)) dX2_hammer_6 ⟨(by first | exact Nat.le_refl _ | exact Nat.zero_le _ | (dsimp only; omega)), (by first | exact Nat.le_refl _ | exact Nat.zero_le _ | (dsimp only; omega))⟩) hS (fun r6 G6 H locs hp6 hR hS => ?_)
  obtain ⟨rfl, rfl⟩ := hp6
  refine lv_if_ne (tgt := 14) hx hb dX2_hammer_9 (by decide) (fun c9 => ?_) (fun c9 => ?_)
  · have ho1 := bI_n0.mp c9
    obtain ⟨o9, ho9, rfl⟩ := fIn_nI (by rw [← hN]; exact ho1) (by omega)
    have hzo : zN (nI o9) = o9 := zN_k ho9 hN2
    have ho2 : ¬ fIn (nI o9) 0 (F 1 - 1) = false := by rw [ho1]; decide
    refine lv_aload_n hx hb dX2_hammer_14 rfl (lv_at hl 0 rfl) ?_
    refine lv_iload_n hx hb dX2_hammer_15 rfl (lv_at hl 1 rfl) ?_
    refine g_ki (g_V (As := [_]) M hR hS (c_X2_hangs l K hA (by first | assumption | rfl) o9 (by omega)) (lw_V q1169 q1171 qs29 q73 q1172) 1 md_X2_hangs rfl ⟨rfl, rfl⟩ ⟨Nat.le_of_ble_eq_true rfl, Nat.le_of_ble_eq_true rfl⟩ (hR.recv M (tG_0 hA) rfl) rfl hl.1 rfl (lv_room (Nat.le_of_ble_eq_true rfl)) dX2_hammer_16 ⟨(by first | exact Nat.le_refl _ | exact Nat.zero_le _ | (dsimp only; omega)), (by first | exact Nat.le_refl _ | exact Nat.zero_le _ | (dsimp only; omega))⟩) hS (fun r16 G16 H locs hp16 hR hS => ?_)
    obtain ⟨rfl, rfl⟩ := hp16
    refine lv_if_ne (tgt := 25) hx hb dX2_hammer_19 (by decide) (fun c19 => ?_) (fun c19 => ?_)
    · have hh := bI_n0.mp c19
      have hz : zHam F (nI o9) = (FP.f2i (FP.fmul (fHs F o9) 1120403456), some (fHm F o9)) := (if_neg ho2).trans (by rw [hzo]; exact if_neg (by rw [hh]; decide))
      obtain ⟨n1, n2, n3⟩ := hammer_ok (ok.strH o9 ho9 (of_decide_eq_true hh))
      refine lv_aload_n hx hb dX2_hammer_25 rfl (lv_at hl 0 rfl) ?_
      refine lv_iload_n hx hb dX2_hammer_26 rfl (lv_at hl 1 rfl) ?_
      refine lv_iconst (v := (5 : Int32)) hx hb dX2_hammer_27 (by decide) ?_
      refine g_kf (g_V (As := [_, _]) M hR hS (c_X2_realOf l K hA (by first | assumption | rfl) o9 5 (by omega) (ok.re5 ho9)) (lw_V q1185 q1187 qs32 q73 q1188) 2 md_X2_realOf rfl ⟨rfl, rfl⟩ ⟨Nat.le_of_ble_eq_true rfl, Nat.le_of_ble_eq_true rfl⟩ (hR.recv M (tG_0 hA) rfl) rfl hl.1 rfl (lv_room (Nat.le_of_ble_eq_true rfl)) dX2_hammer_28 ⟨(by first | exact Nat.le_refl _ | exact Nat.zero_le _ | (dsimp only; omega)), (by first | exact Nat.le_refl _ | exact Nat.zero_le _ | (dsimp only; omega))⟩) hS (fun r28 G28 H locs hp28 hR hS => ?_)
      obtain ⟨rfl, rfl⟩ := hp28
      refine lv_fstore_n (lv' := [(2, _), (0, _), (1, _)]) hx hb dX2_hammer_31 rfl hl (by decide) rfl (fun ls hl => ?_)
      refine lv_aload_n hx hb dX2_hammer_32 rfl (lv_at hl 1 rfl) ?_
      refine lv_iload_n hx hb dX2_hammer_33 rfl (lv_at hl 2 rfl) ?_
      refine lv_fload_n hx hb dX2_hammer_34 rfl (lv_at hl 0 rfl) ?_
      refine lv_ldcf hx hb M.hown (M.hts _ q1148) dX2_hammer_35 ?_
      refine lv_fload_n hx hb dX2_hammer_37 rfl (lv_at hl 0 rfl) ?_
      refine lv_fsub hx hb dX2_hammer_38 n1 ?_
      refine lv_ldcf hx hb M.hown (M.hts _ q1189) dX2_hammer_39 ?_
      refine lv_fmul hx hb dX2_hammer_41 n2 ?_
      refine lv_fadd hx hb dX2_hammer_42 n3.B.n32 ?_
      refine g_kv (g_V (As := [_, _]) M hR hS (c_X2_beStrong l K hA (by first | assumption | rfl) o9 (fHs F o9) (by omega)) (lw_V q1190 q1192 qs33 q73 q1193) 2 md_X2_beStrong rfl ⟨rfl, rfl⟩ ⟨Nat.le_of_ble_eq_true rfl, Nat.le_of_ble_eq_true rfl⟩ (hR.recv M (tG_0 hA) rfl) rfl hl.1 rfl (lv_room (Nat.le_of_ble_eq_true rfl)) dX2_hammer_43 ⟨(by first | exact Nat.le_refl _ | exact Nat.zero_le _ | (dsimp only; omega)), (by first | exact Nat.le_refl _ | exact Nat.zero_le _ | (dsimp only; omega))⟩) hS (fun G43 H locs hp43 hR hS => ?_)
      obtain ⟨V43, rfl, hs43, hF⟩ := hp43
      have hF : V43.2.1 1 = fHm F o9 := hF
      have ok2 : fOk (fHm F o9) P N := ok.str5 n3
      have hsg : fSg (fHm F o9) o9 = fHs F o9 := congrArg Int32.toUInt32 ((fo_up (by decide) (by decide)).trans (if_pos ⟨rfl, rfl⟩) : fo (fHm F o9) o9 5 = (fHs F o9).toInt32)
      refine lv_aload_n hx hb dX2_hammer_46 rfl (lv_at hl 1 rfl) ?_
      refine lv_aload_n hx hb dX2_hammer_47 rfl (lv_at hl 1 rfl) ?_
      refine lv_iload_n hx hb dX2_hammer_48 rfl (lv_at hl 2 rfl) ?_
      refine g_ki (g_V (As := [_]) M hR hS (c_X2_hundredths l K hA (by first | assumption | rfl) o9 ok2 ho9) (lw_V q1194 q1196 qs34 q73 q1197) 1 md_X2_hundredths rfl ⟨rfl, rfl⟩ ⟨Nat.le_of_ble_eq_true rfl, Nat.le_of_ble_eq_true rfl⟩ (hR.recv M (tG_0 hA) rfl) rfl hl.1 rfl (lv_room (Nat.le_of_ble_eq_true rfl)) dX2_hammer_49 ⟨(by first | exact Nat.le_refl _ | exact Nat.zero_le _ | (dsimp only; omega)), (by first | exact Nat.le_refl _ | exact Nat.zero_le _ | (dsimp only; omega))⟩) hS (fun r49 G49 H locs hp49 hR hS => ?_)
      obtain ⟨rfl, rfl⟩ := hp49
      refine g_topi (FP.f2i (FP.fmul (fHs F o9) 1120403456)) (by rw [hsg]) ?_
      have hput9 := (hs43.arr (by decide)).trans (hput)
      have ha9 := (hs43.fld (by decide)).trans ((hs1.fld (by decide)).trans (ha))
      refine g_ki (g_V (As := [_]) M hR hS (c_X2_acted l K hA hput9 a ha9 ha4 _) (lw_V q1101 q1103 qs23 q73 q1104) 1 md_X2_acted rfl ⟨rfl, rfl⟩ ⟨Nat.le_of_ble_eq_true rfl, Nat.le_of_ble_eq_true rfl⟩ (hR.recv M (tG_0 hA) rfl) rfl hl.1 rfl (lv_room (Nat.le_of_ble_eq_true rfl)) dX2_hammer_52 ⟨(by first | exact Nat.le_refl _ | exact Nat.zero_le _ | (dsimp only; omega)), (by first | exact Nat.le_refl _ | exact Nat.zero_le _ | (dsimp only; omega))⟩) hS (fun r52 G52 H locs hp52 hR hS => ?_)
      obtain ⟨rfl, V52, rfl, hs52, hact⟩ := hp52
      exact g_iret M hr hlk hR hS (by omega) (by omega) dX2_hammer_55 (⟨(congrArg Prod.fst hz).symm, _, rfl, by rw [hz]; exact ⟨(tQ.trans (tQ.trans (tQ.trans tQ.rf hs1 (by decide)) hs43 (by decide)) hs52 (by decide)), (hs52.arr (by decide)).trans hF, hact.from ((hs43.arr (by decide)).trans ((hs1.arr (by decide)).trans (rfl)))⟩⟩)
    · have hz : zHam F (nI o9) = (-4, none) := (if_neg ho2).trans (if_pos (by rw [hzo]; exact bI_0.mp c19))
      refine lv_bipush (v := ((-4) : Int32)) hx hb dX2_hammer_22 (by decide) ?_
      exact g_iret M hr hlk hR hS (by omega) (by omega) dX2_hammer_24 (⟨(congrArg Prod.fst hz).symm, _, rfl, by rw [hz]; exact ⟨(tQ.trans tQ.rf hs1 (by decide)), hF⟩⟩)
  · have hz : zHam F o = (-1, none) := if_pos (bI_0.mp c9)
    refine lv_iconst (v := ((-1) : Int32)) hx hb dX2_hammer_12 (by decide) ?_
    exact g_iret M hr hlk hR hS (by omega) (by omega) dX2_hammer_13 (⟨(congrArg Prod.fst hz).symm, _, rfl, by rw [hz]; exact ⟨(tQ.trans tQ.rf hs1 (by decide)), hF⟩⟩)

theorem md_X2_storm : gMd yX2_storm 1 := by
  unfold gMd
  decide +kernel
set_option maxHeartbeats 4000000 in
set_option maxRecDepth 100000 in
theorem c_X2_storm (l : Launch) (K : gK) {G0 : gG} {A : Nat → Nat} {V : tV} {F : Nat → Int32} (hA : tInj A) (hF : V.2.1 1 = F) (b : Int32) (a : Nat) (ha : V.1 6 = nI a) (ha4 : a ≤ 4) {P N : Nat} (ok : fOk F P N) : Met l yX2_storm (ws_ yX2_storm cX2_storm 2 (Option.some Jvm.ClassFile.FieldType.int)) (gRm 5 0 0 112) (gPre K [.ref (A 0), .int b] (tG K G0 A V)) (gQi K (fun r G1 => r = (zSto F N b).1 ∧ ∃ V1, G1 = tG K G0 A V1 ∧ tDo V V1 F a (zSto F N b).2)) 0 0 (gA K) := by
  refine g_met (by decide) (Nat.le_of_ble_eq_true rfl) ?_
  intro p e s m below meth c M hr hlk hnm hR ls hl
  have M : gM K p s m _ c cX2_storm 2 RX2 := M
  have hx := M.hx
  have hb := M.hb
  have hS : va_S (gA K) s.heap s.heap [] := va_S.rf
  have hl : lv_has ls 2 [(0, .ref (A 0)), (1, .int b)] := hl
  have hF0 := hF
  have hN := ok.hN
  have hN2 := ok.hN2
  refine lv_aload_n hx hb dX2_storm_0 rfl (lv_at hl 0 rfl) ?_
  refine g_kv (g_V (As := []) M hR hS (c_X2_aside l K hA (by first | assumption | rfl)) (lw_V q1094 q1096 qs22 q73 q1097) 0 md_X2_aside rfl ⟨rfl, rfl⟩ ⟨Nat.le_of_ble_eq_true rfl, Nat.le_of_ble_eq_true rfl⟩ (hR.recv M (tG_0 hA) rfl) rfl hl.1 rfl (lv_room (Nat.le_of_ble_eq_true rfl)) dX2_storm_1 ⟨(by first | exact Nat.le_refl _ | exact Nat.zero_le _ | (dsimp only; omega)), (by first | exact Nat.le_refl _ | exact Nat.zero_le _ | (dsimp only; omega))⟩) hS (fun G1 H locs hp1 hR hS => ?_)
  obtain ⟨V1, rfl, hs1, hput⟩ := hp1
  have hF := hs1.row hF (by decide)
  refine lv_iload_n hx hb dX2_storm_4 rfl (lv_at hl 1 rfl) ?_
  refine g_ki (g_S (As := [_]) M hR hS (c_X2_isForce l K _) (lw_S q1144 q1145 q73 q1146) 1 md_X2_isForce ⟨rfl, rfl⟩ ⟨Nat.le_of_ble_eq_true rfl, Nat.le_of_ble_eq_true rfl⟩ rfl hl.1 rfl (lv_room (Nat.le_of_ble_eq_true rfl)) dX2_storm_5 ⟨(by first | exact Nat.le_refl _ | exact Nat.zero_le _ | (dsimp only; omega)), (by first | exact Nat.le_refl _ | exact Nat.zero_le _ | (dsimp only; omega))⟩) hS (fun r5 G5 H locs hp5 hR hS => ?_)
  obtain ⟨rfl, e0⟩ := hp5
  rw [e0] at hR
  refine lv_if_eq (tgt := 26) hx hb dX2_storm_8 (by decide) (fun c8 => ?_) (fun c8 => ?_)
  · have hz : zSto F N b = (-2, none) := if_pos (bI_0.mp c8)
    refine lv_bipush (v := ((-2) : Int32)) hx hb dX2_storm_26 (by decide) ?_
    exact g_iret M hr hlk hR hS (by omega) (by omega) dX2_storm_28 (⟨(congrArg Prod.fst hz).symm, _, rfl, by rw [hz]; exact ⟨(tQ.trans tQ.rf hs1 (by decide)), hF⟩⟩)
  · have hb1 := bI_n0.mp c8
    have hz : zSto F N b = (nI (fSn F N b.toUInt32), some (fSt F N b.toUInt32)) := if_neg (by rw [hb1]; decide)
    refine lv_aload_n hx hb dX2_storm_11 rfl (lv_at hl 0 rfl) ?_
    refine lv_aload_n hx hb dX2_storm_12 rfl (lv_at hl 0 rfl) ?_
    refine lv_iload_n hx hb dX2_storm_13 rfl (lv_at hl 1 rfl) ?_
    refine g_i2f M hl.1 q1123 q428 q427 q78 (sn_ok (fFrom_re hb1)) dX2_storm_14 (Nat.le_of_ble_eq_true rfl) (Nat.le_of_ble_eq_true rfl) ?_
    refine g_ki (g_V (As := [_]) M hR hS (c_X2_storms l K hA (by first | assumption | rfl) _ (fFrom_S hb1) ok) (lw_V q1202 q1204 qs35 q73 q1205) 1 md_X2_storms rfl ⟨rfl, rfl⟩ ⟨Nat.le_of_ble_eq_true rfl, Nat.le_of_ble_eq_true rfl⟩ (hR.recv M (tG_0 hA) rfl) rfl hl.1 rfl (lv_room (Nat.le_of_ble_eq_true rfl)) dX2_storm_17 ⟨(by first | exact Nat.le_refl _ | exact Nat.zero_le _ | (dsimp only; omega)), (by first | exact Nat.le_refl _ | exact Nat.zero_le _ | (dsimp only; omega))⟩) hS (fun r17 G17 H locs hp17 hR hS => ?_)
    obtain ⟨rfl, V17, rfl, hs17, hF⟩ := hp17
    have hput9 := (hs17.arr (by decide)).trans (hput)
    have ha9 := (hs17.fld (by decide)).trans ((hs1.fld (by decide)).trans (ha))
    refine g_ki (g_V (As := [_]) M hR hS (c_X2_acted l K hA hput9 a ha9 ha4 _) (lw_V q1101 q1103 qs23 q73 q1104) 1 md_X2_acted rfl ⟨rfl, rfl⟩ ⟨Nat.le_of_ble_eq_true rfl, Nat.le_of_ble_eq_true rfl⟩ (hR.recv M (tG_0 hA) rfl) rfl hl.1 rfl (lv_room (Nat.le_of_ble_eq_true rfl)) dX2_storm_20 ⟨(by first | exact Nat.le_refl _ | exact Nat.zero_le _ | (dsimp only; omega)), (by first | exact Nat.le_refl _ | exact Nat.zero_le _ | (dsimp only; omega))⟩) hS (fun r20 G20 H locs hp20 hR hS => ?_)
    obtain ⟨rfl, V20, rfl, hs20, hact⟩ := hp20
    refine lv_goto (tgt := 28) hx hb dX2_storm_23 (by decide) ?_
    exact g_iret M hr hlk hR hS (by omega) (by omega) dX2_storm_28 (⟨(congrArg Prod.fst hz).symm, _, rfl, by rw [hz]; exact ⟨(tQ.trans (tQ.trans (tQ.trans tQ.rf hs1 (by decide)) hs17 (by decide)) hs20 (by decide)), (hs20.arr (by decide)).trans hF, hact.from ((hs17.arr (by decide)).trans ((hs1.arr (by decide)).trans (rfl)))⟩⟩)

theorem md_X2_undo : gMd yX2_undo 0 := by
  unfold gMd
  decide +kernel
set_option maxHeartbeats 4000000 in
set_option maxRecDepth 100000 in
theorem c_X2_undo (l : Launch) (K : gK) {G0 : gG} {A : Nat → Nat} {V : tV} {F : Nat → Int32} (hA : tInj A) (hF : V.2.1 1 = F) {Fk : Nat → Int32} (a : Nat) (ha : V.1 6 = nI a) (ha4 : a ≤ 4) (hk : ∀ b, a = b + 1 → ∀ i, i < 292 → V.2.1 5 (292 * b + i) = Fk i) : Met l yX2_undo (ws_ yX2_undo cX2_undo 2 (Option.some Jvm.ClassFile.FieldType.int)) (gRm 0 0 0 0) (gPre K [.ref (A 0)] (tG K G0 A V)) (gQi K (fun r G1 => (a = 0 ∧ r = -5 ∧ ∃ V1, G1 = tG K G0 A V1 ∧ tRes V V1 F) ∨ ∃ b, a = b + 1 ∧ r = nI b ∧ ∃ V1, G1 = tG K G0 A V1 ∧ tQ [0, 1, 6] V V1 ∧ V1.2.1 1 = Fk ∧ V1.1 6 = nI b)) 0 0 (gA K) := by
  refine g_met (by decide) (Nat.le_of_ble_eq_true rfl) ?_
  intro p e s m below meth c M hr hlk hnm hR ls hl
  have M : gM K p s m _ c cX2_undo 2 RX2 := M
  have hx := M.hx
  have hb := M.hb
  have hS : va_S (gA K) s.heap s.heap [] := va_S.rf
  have hl : lv_has ls 2 [(0, .ref (A 0))] := hl
  have hF0 := hF
  refine lv_aload_n hx hb dX2_undo_0 rfl (lv_at hl 0 rfl) ?_
  refine lv_iconst (v := (0 : Int32)) hx hb dX2_undo_1 (by decide) ?_
  refine t_putQ M hA hR hS 0 (by decide) q1039 ⟨rfl, rfl⟩ rfl rfl dX2_undo_2 (fun V2 H locs hq2 hw2 hz2 hR hS => ?_)
  have hF := hq2.row hF (by decide)
  refine lv_aload_n hx hb dX2_undo_5 rfl (lv_at hl 0 rfl) ?_
  refine t_getE M hA hR 6 (by decide) ((hq2.fld (by decide)).trans ha) q1045 rfl dX2_undo_6 ?_
  refine lv_if_ne (tgt := 15) hx hb dX2_undo_9 (by decide) (fun c9 => ?_) (fun c9 => ?_)
  · obtain ⟨b, rfl⟩ : ∃ b, a = b + 1 := ⟨a - 1, by have h0 : ¬ a = 0 := fun z => c9 (by rw [z]; rfl); omega⟩
    have hk := hk b rfl
    refine lv_aload_n hx hb dX2_undo_15 rfl (lv_at hl 0 rfl) ?_
    refine lv_dup hx hb dX2_undo_16 rfl ?_
    refine t_getE M hA hR 6 (by decide) ((hq2.fld (by decide)).trans ha) q1045 rfl dX2_undo_17 ?_
    refine lv_iconst (v := (1 : Int32)) hx hb dX2_undo_20 (by decide) ?_
    refine lv_isub hx hb dX2_undo_21 ?_
    refine g_topi (nI b) (nI_pred b) ?_
    refine t_putQ M hA hR hS 6 (by decide) q1045 ⟨rfl, rfl⟩ rfl rfl dX2_undo_22 (fun V22 H locs hq22 hw22 hz22 hR hS => ?_)
    have hF := hq22.row hF (by decide)
    refine lv_iconst (v := (0 : Int32)) hx hb dX2_undo_25 (by decide) ?_
    refine lv_istore_n (lv' := [(1, _), (0, _)]) hx hb dX2_undo_26 rfl hl (by decide) rfl (fun ls hl => ?_)
    refine g_loop (pc := 27) (fun (k : Nat) (ls : Array Slot) (G : gG) (cells slots : Nat) => ∃ j V1, lv_has ls 2 [(1, .int (nI j)), (0, .ref (A 0))] ∧ j ≤ 292 ∧ k = 292 - j ∧ tQ [0, 1, 6] V V1 ∧ V1.1 6 = nI b ∧ (∀ i, i < j → V1.2.1 1 i = Fk i) ∧ G = tG K G0 A V1 ∧ cells = 0 ∧ slots = 0) ?_ (292) ⟨0, _, lv_sub hl [0, 1] rfl, by omega, rfl, (tQ.trans (tQ.trans tQ.rf hq2 (by decide)) hq22 (by decide)), hw22, fun i hi => absurd hi (Nat.not_lt_zero _), rfl, rfl, rfl⟩ hR hS
    intro k ls G H locs cells slots hI hR hS ih27
    obtain ⟨j, V1, hl, hj, rfl, hs, h6, hc, rfl, rfl, rfl⟩ := hI
    refine lv_iload_n hx hb dX2_undo_27 rfl (lv_at hl 0 rfl) ?_
    refine lv_sipush (v := (292 : Int32)) hx hb dX2_undo_28 (by decide) ?_
    refine lv_icmp_ge (tgt := 61) hx hb dX2_undo_31 (by decide) (fun c31 => ?_) (fun c31 => ?_)
    · have h9 : j = 292 := eq_of_ge (n := 292) c31 hj (by decide)
      subst h9
      obtain ⟨V2, hR, hs2, hv2⟩ := tG_ext hA hR 1 (by decide) Fk hc
      refine lv_aload_n hx hb dX2_undo_61 rfl (lv_at hl 1 rfl) ?_
      refine t_getE M hA hR 6 (by decide) ((hs2.fld (by decide)).trans h6) q1045 rfl dX2_undo_62 ?_
      exact g_iret M hr hlk hR hS (by omega) (by omega) dX2_undo_65 (Or.inr ⟨b, rfl, rfl, _, rfl, tQ.trans (tQ.trans tQ.rf hs (by decide)) hs2 (by decide), hv2, (hs2.fld (by decide)).trans h6⟩)
    · have hj2 : j < 292 := lt_of_not (n := 292) c31 (by omega)
      refine lv_aload_n hx hb dX2_undo_34 rfl (lv_at hl 1 rfl) ?_
      refine t_get M hA hR 1 (by decide) q1040 rfl rfl dX2_undo_35 ?_
      refine lv_iload_n hx hb dX2_undo_38 rfl (lv_at hl 0 rfl) ?_
      refine lv_aload_n hx hb dX2_undo_39 rfl (lv_at hl 1 rfl) ?_
      refine t_get M hA hR 5 (by decide) q1044 rfl rfl dX2_undo_40 ?_
      refine lv_sipush (v := (292 : Int32)) hx hb dX2_undo_43 (by decide) ?_
      refine lv_aload_n hx hb dX2_undo_46 rfl (lv_at hl 1 rfl) ?_
      refine t_getE M hA hR 6 (by decide) (h6) q1045 rfl dX2_undo_47 ?_
      refine lv_imul hx hb dX2_undo_50 ?_
      refine lv_iload_n hx hb dX2_undo_51 rfl (lv_at hl 0 rfl) ?_
      refine lv_iadd hx hb dX2_undo_52 ?_
      refine t_aldE M hA ((congrFun (hs.arr (by decide)) _).trans (hk j hj2)) hR (by decide) (ix_m b j) (by show 292 * b + j < 1168; omega) dX2_undo_53 ?_
      refine t_astQ M hA hR hS 1 (by decide) (by first | assumption | rfl) j rfl hj2 dX2_undo_54 (fun V54 H locs hq54 hw54 hR hS => ?_)
      have hF := hw54
      refine g_inc (lv' := [(1, _), (0, _)]) M dX2_undo_55 hl (k := 0) rfl (by decide) rfl (fun ls hl => ?_)
      refine lv_goto (tgt := 27) hx hb dX2_undo_58 (by decide) ?_
      exact ih27 (292 - (j + 1)) _ _ _ _ _ _ (by omega) ⟨j + 1, _, lv_sub hl [0, 1] rfl, by omega, rfl, (tQ.trans (tQ.trans tQ.rf hs (by decide)) hq54 (by decide)), (hq54.fld (by decide)).trans h6, fun i hi => (congrFun hw54 i).trans (wy_s (q := Fk) hc rfl i hi), rfl, rfl, rfl⟩ hR hS
  · have ha0 : a = 0 := (nI_eq (by omega) (by decide : 0 < 2 ^ 31)).mp c9
    refine lv_bipush (v := ((-5) : Int32)) hx hb dX2_undo_12 (by decide) ?_
    exact g_iret M hr hlk hR hS (by omega) (by omega) dX2_undo_14 (Or.inl ⟨ha0, rfl, _, rfl, (tQ.trans tQ.rf hq2 (by decide)), hF⟩)

theorem md_X2_keep : gMd yX2_keep 0 := by
  unfold gMd
  decide +kernel
set_option maxHeartbeats 4000000 in
set_option maxRecDepth 100000 in
theorem c_X2_keep (l : Launch) (K : gK) {G0 : gG} {A : Nat → Nat} {V : tV} {F : Nat → Int32} (hA : tInj A) (hF : V.2.1 1 = F) {P N : Nat} (ok : fOk F P N) : Met l yX2_keep (ws_ yX2_keep cX2_keep 2 (Option.some Jvm.ClassFile.FieldType.int)) (gRm 2 0 0 44) (gPre K [.ref (A 0)] (tG K G0 A V)) (gQi K (fun r G1 => r = fAll F N ∧ ∃ V1, G1 = tG K G0 A V1 ∧ tQ [0, 3, 4] V V1 ∧ V1.2.1 3 = F ∧ V1.1 4 = 1)) 0 0 (gA K) := by
  refine g_met (by decide) (Nat.le_of_ble_eq_true rfl) ?_
  intro p e s m below meth c M hr hlk hnm hR ls hl
  have M : gM K p s m _ c cX2_keep 2 RX2 := M
  have hx := M.hx
  have hb := M.hb
  have hS : va_S (gA K) s.heap s.heap [] := va_S.rf
  have hl : lv_has ls 2 [(0, .ref (A 0))] := hl
  have hF0 := hF
  have hN := ok.hN
  have hN2 := ok.hN2
  refine lv_aload_n hx hb dX2_keep_0 rfl (lv_at hl 0 rfl) ?_
  refine lv_iconst (v := (0 : Int32)) hx hb dX2_keep_1 (by decide) ?_
  refine t_putQ M hA hR hS 0 (by decide) q1039 ⟨rfl, rfl⟩ rfl rfl dX2_keep_2 (fun V2 H locs hq2 hw2 hz2 hR hS => ?_)
  have hF := hq2.row hF (by decide)
  refine lv_iconst (v := (0 : Int32)) hx hb dX2_keep_5 (by decide) ?_
  refine lv_istore_n (lv' := [(1, _), (0, _)]) hx hb dX2_keep_6 rfl hl (by decide) rfl (fun ls hl => ?_)
  refine g_loop (pc := 7) (fun (k : Nat) (ls : Array Slot) (G : gG) (cells slots : Nat) => ∃ j V1, lv_has ls 2 [(1, .int (nI j)), (0, .ref (A 0))] ∧ j ≤ 292 ∧ k = 292 - j ∧ tQ [0, 3, 4] V V1 ∧ (∀ i, i < j → V1.2.1 3 i = F i) ∧ G = tG K G0 A V1 ∧ cells = 0 ∧ slots = 0) ?_ (292) ⟨0, _, lv_sub hl [0, 1] rfl, by omega, rfl, (tQ.trans tQ.rf hq2 (by decide)), fun i hi => absurd hi (Nat.not_lt_zero _), rfl, rfl, rfl⟩ hR hS
  intro k ls G H locs cells slots hI hR hS ih7
  obtain ⟨j, V1, hl, hj, rfl, hs, hc, rfl, rfl, rfl⟩ := hI
  have hF := hs.row hF0 (by decide)
  refine lv_iload_n hx hb dX2_keep_7 rfl (lv_at hl 0 rfl) ?_
  refine lv_sipush (v := (292 : Int32)) hx hb dX2_keep_8 (by decide) ?_
  refine lv_icmp_ge (tgt := 32) hx hb dX2_keep_11 (by decide) (fun c11 => ?_) (fun c11 => ?_)
  · have h9 : j = 292 := eq_of_ge (n := 292) c11 hj (by decide)
    subst h9
    obtain ⟨V2, hR, hs2, hv2⟩ := tG_ext hA hR 3 (by decide) F hc
    have hF := hs2.row hF (by decide)
    refine lv_aload_n hx hb dX2_keep_32 rfl (lv_at hl 1 rfl) ?_
    refine lv_iconst (v := (1 : Int32)) hx hb dX2_keep_33 (by decide) ?_
    refine t_putQ M hA hR hS 4 (by decide) q1043 ⟨rfl, rfl⟩ (by first | exact bI_nar _ | decide) (by first | exact bI_fit _ | decide) dX2_keep_34 (fun V34 H locs hq34 hw34 hz34 hR hS => ?_)
    have hF := hq34.row hF (by decide)
    refine lv_aload_n hx hb dX2_keep_37 rfl (lv_at hl 1 rfl) ?_
    refine g_ki (g_V (As := []) M hR hS (c_X2_allHang l K hA (by first | assumption | rfl) (by assumption)) (lw_V q1149 q1151 qs26 q73 q1152) 0 md_X2_allHang rfl ⟨rfl, rfl⟩ ⟨Nat.le_of_ble_eq_true rfl, Nat.le_of_ble_eq_true rfl⟩ (hR.recv M (tG_0 hA) rfl) rfl hl.1 rfl (lv_room (Nat.le_of_ble_eq_true rfl)) dX2_keep_38 ⟨(by first | exact Nat.le_refl _ | exact Nat.zero_le _ | (dsimp only; omega)), (by first | exact Nat.le_refl _ | exact Nat.zero_le _ | (dsimp only; omega))⟩) hS (fun r38 G38 H locs hp38 hR hS => ?_)
    obtain ⟨rfl, rfl⟩ := hp38
    exact g_iret M hr hlk hR hS (by omega) (by omega) dX2_keep_41 (⟨rfl, _, rfl, (tQ.trans (tQ.trans (tQ.trans tQ.rf hs (by decide)) hs2 (by decide)) hq34 (by decide)), (hq34.arr (by decide)).trans hv2, hw34⟩)
  · have hj2 : j < 292 := lt_of_not (n := 292) c11 (by omega)
    refine lv_aload_n hx hb dX2_keep_14 rfl (lv_at hl 1 rfl) ?_
    refine t_get M hA hR 3 (by decide) q1042 rfl rfl dX2_keep_15 ?_
    refine lv_iload_n hx hb dX2_keep_18 rfl (lv_at hl 0 rfl) ?_
    refine lv_aload_n hx hb dX2_keep_19 rfl (lv_at hl 1 rfl) ?_
    refine t_get M hA hR 1 (by decide) q1040 rfl rfl dX2_keep_20 ?_
    refine lv_iload_n hx hb dX2_keep_23 rfl (lv_at hl 0 rfl) ?_
    refine t_aldF M hA (by first | assumption | rfl) hR (by decide) j rfl hj2 dX2_keep_24 ?_
    refine t_astQ M hA hR hS 3 (by decide) rfl j rfl hj2 dX2_keep_25 (fun V25 H locs hq25 hw25 hR hS => ?_)
    have hF := hq25.row hF (by decide)
    refine g_inc (lv' := [(1, _), (0, _)]) M dX2_keep_26 hl (k := 0) rfl (by decide) rfl (fun ls hl => ?_)
    refine lv_goto (tgt := 7) hx hb dX2_keep_29 (by decide) ?_
    exact ih7 (292 - (j + 1)) _ _ _ _ _ _ (by omega) ⟨j + 1, _, lv_sub hl [0, 1] rfl, by omega, rfl, (tQ.trans (tQ.trans tQ.rf hs (by decide)) hq25 (by decide)), fun i hi => (congrFun hw25 i).trans (wy_s (q := F) hc rfl i hi), rfl, rfl, rfl⟩ hR hS

theorem md_X2_restore : gMd yX2_restore 0 := by
  unfold gMd
  decide +kernel
set_option maxHeartbeats 4000000 in
set_option maxRecDepth 100000 in
theorem c_X2_restore (l : Launch) (K : gK) {G0 : gG} {A : Nat → Nat} {V : tV} {F : Nat → Int32} (hA : tInj A) (hF : V.2.1 1 = F) {Fk : Nat → Int32} {kp : Bool} {Pk Nk : Nat} (a : Nat) (ha : V.1 6 = nI a) (ha4 : a ≤ 4) (h4 : V.1 4 = bI kp) (h3 : kp = true → V.2.1 3 = Fk ∧ fOk Fk Pk Nk) : Met l yX2_restore (ws_ yX2_restore cX2_restore 2 (Option.some Jvm.ClassFile.FieldType.int)) (gRm 2 0 0 44) (gPre K [.ref (A 0)] (tG K G0 A V)) (gQi K (fun r G1 => r = ((if kp = false then ((-5, none) : zR) else (fAll Fk Nk, some Fk))).1 ∧ ∃ V1, G1 = tG K G0 A V1 ∧ tDo V V1 F a ((if kp = false then ((-5, none) : zR) else (fAll Fk Nk, some Fk))).2)) 0 0 (gA K) := by
  refine g_met (by decide) (Nat.le_of_ble_eq_true rfl) ?_
  intro p e s m below meth c M hr hlk hnm hR ls hl
  have M : gM K p s m _ c cX2_restore 2 RX2 := M
  have hx := M.hx
  have hb := M.hb
  have hS : va_S (gA K) s.heap s.heap [] := va_S.rf
  have hl : lv_has ls 2 [(0, .ref (A 0))] := hl
  have hF0 := hF
  refine lv_aload_n hx hb dX2_restore_0 rfl (lv_at hl 0 rfl) ?_
  refine g_kv (g_V (As := []) M hR hS (c_X2_aside l K hA (by first | assumption | rfl)) (lw_V q1094 q1096 qs22 q73 q1097) 0 md_X2_aside rfl ⟨rfl, rfl⟩ ⟨Nat.le_of_ble_eq_true rfl, Nat.le_of_ble_eq_true rfl⟩ (hR.recv M (tG_0 hA) rfl) rfl hl.1 rfl (lv_room (Nat.le_of_ble_eq_true rfl)) dX2_restore_1 ⟨(by first | exact Nat.le_refl _ | exact Nat.zero_le _ | (dsimp only; omega)), (by first | exact Nat.le_refl _ | exact Nat.zero_le _ | (dsimp only; omega))⟩) hS (fun G1 H locs hp1 hR hS => ?_)
  obtain ⟨V9, rfl, hs1, hput⟩ := hp1
  have hF := hs1.row hF (by decide)
  refine lv_aload_n hx hb dX2_restore_4 rfl (lv_at hl 0 rfl) ?_
  refine t_getE M hA hR 4 (by decide) ((hs1.fld (by decide)).trans h4) q1043 rfl dX2_restore_5 ?_
  refine lv_if_ne (tgt := 14) hx hb dX2_restore_8 (by decide) (fun c8 => ?_) (fun c8 => ?_)
  · have hkp := bI_n0.mp c8
    obtain ⟨h3, okk⟩ := h3 hkp
    have hz : (if kp = false then ((-5, none) : zR) else (fAll Fk Nk, some Fk)) = (fAll Fk Nk, some Fk) := if_neg (by rw [hkp]; decide)
    refine lv_iconst (v := (0 : Int32)) hx hb dX2_restore_14 (by decide) ?_
    refine lv_istore_n (lv' := [(1, _), (0, _)]) hx hb dX2_restore_15 rfl hl (by decide) rfl (fun ls hl => ?_)
    refine g_loop (pc := 16) (fun (k : Nat) (ls : Array Slot) (G : gG) (cells slots : Nat) => ∃ j V1, lv_has ls 2 [(1, .int (nI j)), (0, .ref (A 0))] ∧ j ≤ 292 ∧ k = 292 - j ∧ tQ [1] V9 V1 ∧ (∀ i, i < j → V1.2.1 1 i = Fk i) ∧ G = tG K G0 A V1 ∧ cells = 0 ∧ slots = 0) ?_ (292) ⟨0, _, lv_sub hl [0, 1] rfl, by omega, rfl, tQ.rf, fun i hi => absurd hi (Nat.not_lt_zero _), rfl, rfl, rfl⟩ hR hS
    intro k ls G H locs cells slots hI hR hS ih16
    obtain ⟨j, V1, hl, hj, rfl, hs, hc, rfl, rfl, rfl⟩ := hI
    refine lv_iload_n hx hb dX2_restore_16 rfl (lv_at hl 0 rfl) ?_
    refine lv_sipush (v := (292 : Int32)) hx hb dX2_restore_17 (by decide) ?_
    refine lv_icmp_ge (tgt := 41) hx hb dX2_restore_20 (by decide) (fun c20 => ?_) (fun c20 => ?_)
    · have h9 : j = 292 := eq_of_ge (n := 292) c20 hj (by decide)
      subst h9
      obtain ⟨V2, hR, hs2, hF⟩ := tG_ext hA hR 1 (by decide) Fk hc
      refine lv_aload_n hx hb dX2_restore_41 rfl (lv_at hl 1 rfl) ?_
      refine lv_aload_n hx hb dX2_restore_42 rfl (lv_at hl 1 rfl) ?_
      refine g_ki (g_V (As := []) M hR hS (c_X2_allHang l K hA (by first | assumption | rfl) okk) (lw_V q1149 q1151 qs26 q73 q1152) 0 md_X2_allHang rfl ⟨rfl, rfl⟩ ⟨Nat.le_of_ble_eq_true rfl, Nat.le_of_ble_eq_true rfl⟩ (hR.recv M (tG_0 hA) rfl) rfl hl.1 rfl (lv_room (Nat.le_of_ble_eq_true rfl)) dX2_restore_43 ⟨(by first | exact Nat.le_refl _ | exact Nat.zero_le _ | (dsimp only; omega)), (by first | exact Nat.le_refl _ | exact Nat.zero_le _ | (dsimp only; omega))⟩) hS (fun r43 G43 H locs hp43 hR hS => ?_)
      obtain ⟨rfl, rfl⟩ := hp43
      have hput9 := (hs2.arr (by decide)).trans ((hs.arr (by decide)).trans (hput))
      have ha9 := (hs2.fld (by decide)).trans ((hs.fld (by decide)).trans ((hs1.fld (by decide)).trans (ha)))
      refine g_ki (g_V (As := [_]) M hR hS (c_X2_acted l K hA hput9 a ha9 ha4 _) (lw_V q1101 q1103 qs23 q73 q1104) 1 md_X2_acted rfl ⟨rfl, rfl⟩ ⟨Nat.le_of_ble_eq_true rfl, Nat.le_of_ble_eq_true rfl⟩ (hR.recv M (tG_0 hA) rfl) rfl hl.1 rfl (lv_room (Nat.le_of_ble_eq_true rfl)) dX2_restore_46 ⟨(by first | exact Nat.le_refl _ | exact Nat.zero_le _ | (dsimp only; omega)), (by first | exact Nat.le_refl _ | exact Nat.zero_le _ | (dsimp only; omega))⟩) hS (fun r46 G46 H locs hp46 hR hS => ?_)
      obtain ⟨rfl, V46, rfl, hs46, hact⟩ := hp46
      exact g_iret M hr hlk hR hS (by omega) (by omega) dX2_restore_49 (⟨(congrArg Prod.fst hz).symm, _, rfl, by rw [hz]; exact ⟨(tQ.trans (tQ.trans (tQ.trans (tQ.trans tQ.rf hs1 (by decide)) hs (by decide)) hs2 (by decide)) hs46 (by decide)), (hs46.arr (by decide)).trans hF, hact.from ((hs2.arr (by decide)).trans ((hs.arr (by decide)).trans ((hs1.arr (by decide)).trans (rfl))))⟩⟩)
    · have hj2 : j < 292 := lt_of_not (n := 292) c20 (by omega)
      refine lv_aload_n hx hb dX2_restore_23 rfl (lv_at hl 1 rfl) ?_
      refine t_get M hA hR 1 (by decide) q1040 rfl rfl dX2_restore_24 ?_
      refine lv_iload_n hx hb dX2_restore_27 rfl (lv_at hl 0 rfl) ?_
      refine lv_aload_n hx hb dX2_restore_28 rfl (lv_at hl 1 rfl) ?_
      refine t_get M hA hR 3 (by decide) q1042 rfl rfl dX2_restore_29 ?_
      refine lv_iload_n hx hb dX2_restore_32 rfl (lv_at hl 0 rfl) ?_
      refine t_aldE M hA ((congrFun ((hs.arr (by decide)).trans ((hs1.arr (by decide)).trans h3)) j)) hR (by decide) rfl hj2 dX2_restore_33 ?_
      refine t_astQ M hA hR hS 1 (by decide) (by first | assumption | rfl) j rfl hj2 dX2_restore_34 (fun V34 H locs hq34 hw34 hR hS => ?_)
      have hF := hw34
      refine g_inc (lv' := [(1, _), (0, _)]) M dX2_restore_35 hl (k := 0) rfl (by decide) rfl (fun ls hl => ?_)
      refine lv_goto (tgt := 16) hx hb dX2_restore_38 (by decide) ?_
      exact ih16 (292 - (j + 1)) _ _ _ _ _ _ (by omega) ⟨j + 1, _, lv_sub hl [0, 1] rfl, by omega, rfl, hs.trans hq34 (by decide), fun i hi => (congrFun hw34 i).trans (wy_s (q := Fk) hc rfl i hi), rfl, rfl, rfl⟩ hR hS
  · have hz : (if kp = false then ((-5, none) : zR) else (fAll Fk Nk, some Fk)) = (-5, none) := if_pos (bI_0.mp c8)
    refine lv_bipush (v := ((-5) : Int32)) hx hb dX2_restore_11 (by decide) ?_
    exact g_iret M hr hlk hR hS (by omega) (by omega) dX2_restore_13 (⟨(congrArg Prod.fst hz).symm, _, rfl, by rw [hz]; exact ⟨(tQ.trans tQ.rf hs1 (by decide)), hF⟩⟩)

theorem md_X2_type : gMd yX2_type 1 := by
  unfold gMd
  decide +kernel
set_option maxHeartbeats 4000000 in
set_option maxRecDepth 100000 in
theorem c_X2_type (l : Launch) (K : gK) {G0 : gG} {A : Nat → Nat} {V : tV} {F : Nat → Int32} (hA : tInj A) (hF : V.2.1 1 = F) (x : Int32) (n : Nat) (hn : V.1 8 = nI n) (hn2 : n ≤ 60) : Met l yX2_type (ws_ yX2_type cX2_type 2 (Option.some Jvm.ClassFile.FieldType.int)) (gRm 0 0 0 0) (gPre K [.ref (A 0), .int x] (tG K G0 A V)) (gQi K (fun r G1 => if n = 60 then r = -3 ∧ ∃ V1, G1 = tG K G0 A V1 ∧ tRes V V1 F else r = nI (n + 1) ∧ ∃ V1, G1 = tG K G0 A V1 ∧ tQ [0, 7, 8] V V1 ∧ V1.1 8 = nI (n + 1) ∧ V1.2.1 7 = upd (V.2.1 7) n x)) 0 0 (gA K) := by
  refine g_met (by decide) (Nat.le_of_ble_eq_true rfl) ?_
  intro p e s m below meth c M hr hlk hnm hR ls hl
  have M : gM K p s m _ c cX2_type 2 RX2 := M
  have hx := M.hx
  have hb := M.hb
  have hS : va_S (gA K) s.heap s.heap [] := va_S.rf
  have hl : lv_has ls 2 [(0, .ref (A 0)), (1, .int x)] := hl
  have hF0 := hF
  refine lv_aload_n hx hb dX2_type_0 rfl (lv_at hl 0 rfl) ?_
  refine lv_iconst (v := (0 : Int32)) hx hb dX2_type_1 (by decide) ?_
  refine t_putQ M hA hR hS 0 (by decide) q1039 ⟨rfl, rfl⟩ rfl rfl dX2_type_2 (fun V2 H locs hq2 hw2 hz2 hR hS => ?_)
  have hF := hq2.row hF (by decide)
  refine lv_aload_n hx hb dX2_type_5 rfl (lv_at hl 0 rfl) ?_
  refine t_getE M hA hR 8 (by decide) ((hq2.fld (by decide)).trans hn) q1047 rfl dX2_type_6 ?_
  refine lv_bipush (v := (60 : Int32)) hx hb dX2_type_9 (by decide) ?_
  refine lv_icmp_ne (tgt := 17) hx hb dX2_type_11 (by decide) (fun c11 => ?_) (fun c11 => ?_)
  · have h60 : ¬ n = 60 := fun z => c11 (by rw [z]; rfl)
    refine lv_aload_n hx hb dX2_type_17 rfl (lv_at hl 0 rfl) ?_
    refine t_get M hA hR 7 (by decide) q1046 rfl rfl dX2_type_18 ?_
    refine lv_aload_n hx hb dX2_type_21 rfl (lv_at hl 0 rfl) ?_
    refine t_getE M hA hR 8 (by decide) ((hq2.fld (by decide)).trans hn) q1047 rfl dX2_type_22 ?_
    refine lv_iload_n hx hb dX2_type_25 rfl (lv_at hl 1 rfl) ?_
    refine t_astQ M hA hR hS 7 (by decide) rfl n rfl (by show n < 60; omega) dX2_type_26 (fun V26 H locs hq26 hw26 hR hS => ?_)
    have hF := hq26.row hF (by decide)
    refine lv_aload_n hx hb dX2_type_27 rfl (lv_at hl 0 rfl) ?_
    refine lv_dup hx hb dX2_type_28 rfl ?_
    refine t_getE M hA hR 8 (by decide) ((hq26.fld (by decide)).trans ((hq2.fld (by decide)).trans hn)) q1047 rfl dX2_type_29 ?_
    refine lv_iconst (v := (1 : Int32)) hx hb dX2_type_32 (by decide) ?_
    refine lv_iadd hx hb dX2_type_33 ?_
    refine g_topi (nI (n + 1)) (nI_1 n) ?_
    refine t_putQ M hA hR hS 8 (by decide) q1047 ⟨rfl, rfl⟩ rfl rfl dX2_type_34 (fun V34 H locs hq34 hw34 hz34 hR hS => ?_)
    have hF := hq34.row hF (by decide)
    refine lv_aload_n hx hb dX2_type_37 rfl (lv_at hl 0 rfl) ?_
    refine t_getE M hA hR 8 (by decide) (hw34) q1047 rfl dX2_type_38 ?_
    exact g_iret M hr hlk hR hS (by omega) (by omega) dX2_type_41 (by rw [if_neg h60]; exact ⟨rfl, _, rfl, (tQ.trans (tQ.trans (tQ.trans tQ.rf hq2 (by decide)) hq26 (by decide)) hq34 (by decide)), hw34, (hq34.arr (by decide)).trans (hw26.trans (by rw [hq2.arr (by decide)]))⟩)
  · have h60 : n = 60 := (nI_eq (by omega) (by decide : 60 < 2 ^ 31)).mp c11
    refine lv_bipush (v := ((-3) : Int32)) hx hb dX2_type_14 (by decide) ?_
    exact g_iret M hr hlk hR hS (by omega) (by omega) dX2_type_16 (by rw [if_pos h60]; exact ⟨rfl, _, rfl, (tQ.trans tQ.rf hq2 (by decide)), hF⟩)

theorem md_X2_clearText : gMd yX2_clearText 0 := by
  unfold gMd
  decide +kernel
set_option maxHeartbeats 4000000 in
set_option maxRecDepth 100000 in
theorem c_X2_clearText (l : Launch) (K : gK) {G0 : gG} {A : Nat → Nat} {V : tV} {F : Nat → Int32} (hA : tInj A) (hF : V.2.1 1 = F) (n : Nat) (hn : V.1 8 = nI n) : Met l yX2_clearText (ws_ yX2_clearText cX2_clearText 2 (Option.some Jvm.ClassFile.FieldType.int)) (gRm 0 0 0 0) (gPre K [.ref (A 0)] (tG K G0 A V)) (gQi K (fun r G1 => r = nI n ∧ ∃ V1, G1 = tG K G0 A V1 ∧ tQ [0, 8] V V1 ∧ V1.1 8 = 0)) 0 0 (gA K) := by
  refine g_met (by decide) (Nat.le_of_ble_eq_true rfl) ?_
  intro p e s m below meth c M hr hlk hnm hR ls hl
  have M : gM K p s m _ c cX2_clearText 2 RX2 := M
  have hx := M.hx
  have hb := M.hb
  have hS : va_S (gA K) s.heap s.heap [] := va_S.rf
  have hl : lv_has ls 2 [(0, .ref (A 0))] := hl
  have hF0 := hF
  refine lv_aload_n hx hb dX2_clearText_0 rfl (lv_at hl 0 rfl) ?_
  refine lv_iconst (v := (0 : Int32)) hx hb dX2_clearText_1 (by decide) ?_
  refine t_putQ M hA hR hS 0 (by decide) q1039 ⟨rfl, rfl⟩ rfl rfl dX2_clearText_2 (fun V2 H locs hq2 hw2 hz2 hR hS => ?_)
  have hF := hq2.row hF (by decide)
  refine lv_aload_n hx hb dX2_clearText_5 rfl (lv_at hl 0 rfl) ?_
  refine t_getE M hA hR 8 (by decide) ((hq2.fld (by decide)).trans hn) q1047 rfl dX2_clearText_6 ?_
  refine lv_istore_n (lv' := [(1, _), (0, _)]) hx hb dX2_clearText_9 rfl hl (by decide) rfl (fun ls hl => ?_)
  refine lv_aload_n hx hb dX2_clearText_10 rfl (lv_at hl 1 rfl) ?_
  refine lv_iconst (v := (0 : Int32)) hx hb dX2_clearText_11 (by decide) ?_
  refine t_putQ M hA hR hS 8 (by decide) q1047 ⟨rfl, rfl⟩ rfl rfl dX2_clearText_12 (fun V12 H locs hq12 hw12 hz12 hR hS => ?_)
  have hF := hq12.row hF (by decide)
  refine lv_iload_n hx hb dX2_clearText_15 rfl (lv_at hl 0 rfl) ?_
  exact g_iret M hr hlk hR hS (by omega) (by omega) dX2_clearText_16 (⟨rfl, _, rfl, (tQ.trans (tQ.trans tQ.rf hq2 (by decide)) hq12 (by decide)), hw12⟩)

theorem md_X2_person : gMd yX2_person 2 := by
  unfold gMd
  decide +kernel
set_option maxHeartbeats 4000000 in
set_option maxRecDepth 100000 in
theorem c_X2_person (l : Launch) (K : gK) {G0 : gG} {A : Nat → Nat} {V : tV} {F : Nat → Int32} (hA : tInj A) (hF : V.2.1 1 = F) (p9 what : Int32) {P N : Nat} (ok : fOk F P N) : Met l yX2_person (ws_ yX2_person cX2_person 3 (Option.some Jvm.ClassFile.FieldType.int)) (gRm 5 0 0 113) (gPre K [.ref (A 0), .int p9, .int what] (tG K G0 A V)) (gQi K (fun r G1 => r = zPer F N p9 what ∧ ∃ V1, G1 = tG K G0 A V1 ∧ tRes V V1 F)) 0 0 (gA K) := by
  refine g_met (by decide) (Nat.le_of_ble_eq_true rfl) ?_
  intro p e s m below meth c M hr hlk hnm hR ls hl
  have M : gM K p s m _ c cX2_person 3 RX2 := M
  have hx := M.hx
  have hb := M.hb
  have hS : va_S (gA K) s.heap s.heap [] := va_S.rf
  have hl : lv_has ls 3 [(0, .ref (A 0)), (1, .int p9), (2, .int what)] := hl
  have hF0 := hF
  have hN := ok.hN
  have hN2 := ok.hN2
  refine lv_aload_n hx hb dX2_person_0 rfl (lv_at hl 0 rfl) ?_
  refine lv_iconst (v := (0 : Int32)) hx hb dX2_person_1 (by decide) ?_
  refine t_putQ M hA hR hS 0 (by decide) q1039 ⟨rfl, rfl⟩ rfl rfl dX2_person_2 (fun V2 H locs hq2 hw2 hz2 hR hS => ?_)
  have hF := hq2.row hF (by decide)
  refine lv_aload_n hx hb dX2_person_5 rfl (lv_at hl 0 rfl) ?_
  refine lv_iload_n hx hb dX2_person_6 rfl (lv_at hl 1 rfl) ?_
  refine g_ki (g_V (As := [_]) M hR hS (c_X2_isPerson l K hA (by first | assumption | rfl) _) (lw_V q1109 q1111 qs24 q73 q1112) 1 md_X2_isPerson rfl ⟨rfl, rfl⟩ ⟨Nat.le_of_ble_eq_true rfl, Nat.le_of_ble_eq_true rfl⟩ (hR.recv M (tG_0 hA) rfl) rfl hl.1 rfl (lv_room (Nat.le_of_ble_eq_true rfl)) dX2_person_7 ⟨(by first | exact Nat.le_refl _ | exact Nat.zero_le _ | (dsimp only; omega)), (by first | exact Nat.le_refl _ | exact Nat.zero_le _ | (dsimp only; omega))⟩) hS (fun r7 G7 H locs hp7 hR hS => ?_)
  obtain ⟨rfl, rfl⟩ := hp7
  refine lv_if_ne (tgt := 15) hx hb dX2_person_10 (by decide) (fun c10 => ?_) (fun c10 => ?_)
  · have ho1 := bI_n0.mp c10
    have hP6 := ok.hP6
    obtain ⟨o9, ho9, rfl⟩ := fIn_nI (by rw [← ok.hP]; exact ho1) (by omega)
    have hzo : zN (nI o9) = o9 := zN_k ho9 (by omega)
    have ho2 : ¬ fIn (nI o9) 0 (F 0 - 1) = false := by rw [ho1]; decide
    refine lv_iload_n hx hb dX2_person_15 rfl (lv_at hl 2 rfl) ?_
    refine lv_iconst (v := (0 : Int32)) hx hb dX2_person_16 (by decide) ?_
    refine lv_iconst (v := (4 : Int32)) hx hb dX2_person_17 (by decide) ?_
    refine g_ki (g_S (As := [_, _, _]) M hR hS (c_X2_in l K _ _ _) (lw_S q1098 q1099 q73 q1100) 3 md_X2_in ⟨rfl, rfl⟩ ⟨Nat.le_of_ble_eq_true rfl, Nat.le_of_ble_eq_true rfl⟩ rfl hl.1 rfl (lv_room (Nat.le_of_ble_eq_true rfl)) dX2_person_18 ⟨(by first | exact Nat.le_refl _ | exact Nat.zero_le _ | (dsimp only; omega)), (by first | exact Nat.le_refl _ | exact Nat.zero_le _ | (dsimp only; omega))⟩) hS (fun r18 G18 H locs hp18 hR hS => ?_)
    obtain ⟨rfl, e0⟩ := hp18
    rw [e0] at hR
    refine lv_if_ne (tgt := 29) hx hb dX2_person_21 (by decide) (fun c21 => ?_) (fun c21 => ?_)
    · have hr2 : ¬ fIn what 0 4 = false := by rw [bI_n0.mp c21]; decide
      refine lv_iload_n hx hb dX2_person_29 rfl (lv_at hl 2 rfl) ?_
      refine lv_if_ne (tgt := 45) hx hb dX2_person_30 (by decide) (fun c30 => ?_) (fun c30 => ?_)
      · refine lv_iload_n hx hb dX2_person_45 rfl (lv_at hl 2 rfl) ?_
        refine lv_iconst (v := (4 : Int32)) hx hb dX2_person_46 (by decide) ?_
        refine lv_icmp_ne (tgt := 58) hx hb dX2_person_47 (by decide) (fun c47 => ?_) (fun c47 => ?_)
        · have hz : zPer F N (nI o9) what = nI (fCnt (fOw F N (nI o9) what) 0 N) := (if_neg ho2).trans ((if_neg hr2).trans ((if_neg c30).trans (if_neg c47)))
          refine lv_aload_n hx hb dX2_person_58 rfl (lv_at hl 0 rfl) ?_
          refine lv_iload_n hx hb dX2_person_59 rfl (lv_at hl 1 rfl) ?_
          refine lv_iload_n hx hb dX2_person_60 rfl (lv_at hl 2 rfl) ?_
          refine g_ki (g_V (As := [_, _]) M hR hS (c_X2_ordersOf l K hA (by first | assumption | rfl) _ _ (by assumption)) (lw_V q1360 q1362 qs57 q73 q1363) 2 md_X2_ordersOf rfl ⟨rfl, rfl⟩ ⟨Nat.le_of_ble_eq_true rfl, Nat.le_of_ble_eq_true rfl⟩ (hR.recv M (tG_0 hA) rfl) rfl hl.1 rfl (lv_room (Nat.le_of_ble_eq_true rfl)) dX2_person_61 ⟨(by first | exact Nat.le_refl _ | exact Nat.zero_le _ | (dsimp only; omega)), (by first | exact Nat.le_refl _ | exact Nat.zero_le _ | (dsimp only; omega))⟩) hS (fun r61 G61 H locs hp61 hR hS => ?_)
          obtain ⟨rfl, rfl⟩ := hp61
          exact g_iret M hr hlk hR hS (by omega) (by omega) dX2_person_64 (⟨hz.symm, _, rfl, (tQ.trans tQ.rf hq2 (by decide)), hF⟩)
        · have hz : zPer F N (nI o9) what = fBits (fun o => fHg F o && decide (fo F o 0 = nI o9)) (fun o => fo F o 1) N := (if_neg ho2).trans ((if_neg hr2).trans ((if_neg c30).trans (if_pos c47)))
          refine lv_aload_n hx hb dX2_person_50 rfl (lv_at hl 0 rfl) ?_
          refine lv_iload_n hx hb dX2_person_51 rfl (lv_at hl 1 rfl) ?_
          refine g_ki (g_V (As := [_]) M hR hS (c_X2_wordsOf l K hA (by first | assumption | rfl) _ (by assumption)) (lw_V q1356 q1358 qs56 q73 q1359) 1 md_X2_wordsOf rfl ⟨rfl, rfl⟩ ⟨Nat.le_of_ble_eq_true rfl, Nat.le_of_ble_eq_true rfl⟩ (hR.recv M (tG_0 hA) rfl) rfl hl.1 rfl (lv_room (Nat.le_of_ble_eq_true rfl)) dX2_person_52 ⟨(by first | exact Nat.le_refl _ | exact Nat.zero_le _ | (dsimp only; omega)), (by first | exact Nat.le_refl _ | exact Nat.zero_le _ | (dsimp only; omega))⟩) hS (fun r52 G52 H locs hp52 hR hS => ?_)
          obtain ⟨rfl, rfl⟩ := hp52
          refine lv_goto (tgt := 64) hx hb dX2_person_55 (by decide) ?_
          exact g_iret M hr hlk hR hS (by omega) (by omega) dX2_person_64 (⟨hz.symm, _, rfl, (tQ.trans tQ.rf hq2 (by decide)), hF⟩)
      · have hz : zPer F N (nI o9) what = F (6 + o9) := (if_neg ho2).trans ((if_neg hr2).trans ((if_pos c30).trans (by rw [hzo])))
        refine lv_aload_n hx hb dX2_person_33 rfl (lv_at hl 0 rfl) ?_
        refine t_get M hA hR 1 (by decide) q1040 rfl rfl dX2_person_34 ?_
        refine lv_bipush (v := (6 : Int32)) hx hb dX2_person_37 (by decide) ?_
        refine lv_iload_n hx hb dX2_person_39 rfl (lv_at hl 1 rfl) ?_
        refine lv_iadd hx hb dX2_person_40 ?_
        refine t_aldF M hA (by first | assumption | rfl) hR (by decide) (6 + o9) (nI_add 6 o9) (by show 6 + o9 < 292; omega) dX2_person_41 ?_
        refine lv_goto (tgt := 64) hx hb dX2_person_42 (by decide) ?_
        exact g_iret M hr hlk hR hS (by omega) (by omega) dX2_person_64 (⟨hz.symm, _, rfl, (tQ.trans tQ.rf hq2 (by decide)), hF⟩)
    · have hz : zPer F N (nI o9) what = -2 := (if_neg ho2).trans (if_pos (bI_0.mp c21))
      refine lv_bipush (v := ((-2) : Int32)) hx hb dX2_person_24 (by decide) ?_
      refine lv_goto (tgt := 64) hx hb dX2_person_26 (by decide) ?_
      exact g_iret M hr hlk hR hS (by omega) (by omega) dX2_person_64 (⟨hz.symm, _, rfl, (tQ.trans tQ.rf hq2 (by decide)), hF⟩)
  · have hz : zPer F N p9 what = -1 := if_pos (bI_0.mp c10)
    refine lv_iconst (v := ((-1) : Int32)) hx hb dX2_person_13 (by decide) ?_
    exact g_iret M hr hlk hR hS (by omega) (by omega) dX2_person_14 (⟨hz.symm, _, rfl, (tQ.trans tQ.rf hq2 (by decide)), hF⟩)

theorem md_X2_count : gMd yX2_count 1 := by
  unfold gMd
  decide +kernel
set_option maxHeartbeats 4000000 in
set_option maxRecDepth 100000 in
theorem c_X2_count (l : Launch) (K : gK) {G0 : gG} {A : Nat → Nat} {V : tV} {F : Nat → Int32} (hA : tInj A) (hF : V.2.1 1 = F) (what : Int32) (a n : Nat) (ha : V.1 6 = nI a) (hn : V.1 8 = nI n) {P N : Nat} (ok : fOk F P N) : Met l yX2_count (ws_ yX2_count cX2_count 2 (Option.some Jvm.ClassFile.FieldType.int)) (gRm 9 0 0 207) (gPre K [.ref (A 0), .int what] (tG K G0 A V)) (gQi K (fun r G1 => r = zCnt F N a n what ∧ ∃ V1, G1 = tG K G0 A V1 ∧ tRes V V1 F)) 0 0 (gA K) := by
  refine g_met (by decide) (Nat.le_of_ble_eq_true rfl) ?_
  intro p e s m below meth c M hr hlk hnm hR ls hl
  have M : gM K p s m _ c cX2_count 2 RX2 := M
  have hx := M.hx
  have hb := M.hb
  have hS : va_S (gA K) s.heap s.heap [] := va_S.rf
  have hl : lv_has ls 2 [(0, .ref (A 0)), (1, .int what)] := hl
  have hF0 := hF
  have hN := ok.hN
  have hN2 := ok.hN2
  refine lv_aload_n hx hb dX2_count_0 rfl (lv_at hl 0 rfl) ?_
  refine lv_iconst (v := (0 : Int32)) hx hb dX2_count_1 (by decide) ?_
  refine t_putQ M hA hR hS 0 (by decide) q1039 ⟨rfl, rfl⟩ rfl rfl dX2_count_2 (fun V2 H locs hq2 hw2 hz2 hR hS => ?_)
  have hF := hq2.row hF (by decide)
  refine lv_iload_n hx hb dX2_count_5 rfl (lv_at hl 1 rfl) ?_
  by_cases t6_0 : what = 0
  · refine lv_tableIn (off := 66) (tgt := 72) hx hb dX2_count_6 (by rw [t6_0]; decide) (by rw [t6_0]; decide) (by rw [t6_0]; decide) (by decide) ?_
    have hz : zCnt F N a n what = F 0 := (if_pos t6_0).trans (rfl)
    refine lv_aload_n hx hb dX2_count_72 rfl (lv_at hl 0 rfl) ?_
    refine t_get M hA hR 1 (by decide) q1040 rfl rfl dX2_count_73 ?_
    refine lv_iconst (v := (0 : Int32)) hx hb dX2_count_76 (by decide) ?_
    refine t_aldF M hA (by first | assumption | rfl) hR (by decide) 0 rfl (by decide) dX2_count_77 ?_
    exact g_iret M hr hlk hR hS (by omega) (by omega) dX2_count_78 (⟨hz.symm, _, rfl, (tQ.trans tQ.rf hq2 (by decide)), hF⟩)
  by_cases t6_1 : what = 1
  · refine lv_tableIn (off := 73) (tgt := 79) hx hb dX2_count_6 (by rw [t6_1]; decide) (by rw [t6_1]; decide) (by rw [t6_1]; decide) (by decide) ?_
    have hz : zCnt F N a n what = F 1 := (if_neg t6_0).trans ((if_pos t6_1).trans (rfl))
    refine lv_aload_n hx hb dX2_count_79 rfl (lv_at hl 0 rfl) ?_
    refine t_get M hA hR 1 (by decide) q1040 rfl rfl dX2_count_80 ?_
    refine lv_iconst (v := (1 : Int32)) hx hb dX2_count_83 (by decide) ?_
    refine t_aldF M hA (by first | assumption | rfl) hR (by decide) 1 rfl (by decide) dX2_count_84 ?_
    exact g_iret M hr hlk hR hS (by omega) (by omega) dX2_count_85 (⟨hz.symm, _, rfl, (tQ.trans tQ.rf hq2 (by decide)), hF⟩)
  by_cases t6_2 : what = 2
  · refine lv_tableIn (off := 80) (tgt := 86) hx hb dX2_count_6 (by rw [t6_2]; decide) (by rw [t6_2]; decide) (by rw [t6_2]; decide) (by decide) ?_
    have hz : zCnt F N a n what = fAll F N := (if_neg t6_0).trans ((if_neg t6_1).trans ((if_pos t6_2).trans (rfl)))
    refine lv_aload_n hx hb dX2_count_86 rfl (lv_at hl 0 rfl) ?_
    refine g_ki (g_V (As := []) M hR hS (c_X2_allHang l K hA (by first | assumption | rfl) (by assumption)) (lw_V q1149 q1151 qs26 q73 q1152) 0 md_X2_allHang rfl ⟨rfl, rfl⟩ ⟨Nat.le_of_ble_eq_true rfl, Nat.le_of_ble_eq_true rfl⟩ (hR.recv M (tG_0 hA) rfl) rfl hl.1 rfl (lv_room (Nat.le_of_ble_eq_true rfl)) dX2_count_87 ⟨(by first | exact Nat.le_refl _ | exact Nat.zero_le _ | (dsimp only; omega)), (by first | exact Nat.le_refl _ | exact Nat.zero_le _ | (dsimp only; omega))⟩) hS (fun r87 G87 H locs hp87 hR hS => ?_)
    obtain ⟨rfl, rfl⟩ := hp87
    exact g_iret M hr hlk hR hS (by omega) (by omega) dX2_count_90 (⟨hz.symm, _, rfl, (tQ.trans tQ.rf hq2 (by decide)), hF⟩)
  by_cases t6_3 : what = 3
  · refine lv_tableIn (off := 85) (tgt := 91) hx hb dX2_count_6 (by rw [t6_3]; decide) (by rw [t6_3]; decide) (by rw [t6_3]; decide) (by decide) ?_
    have hz : zCnt F N a n what = F 2 := (if_neg t6_0).trans ((if_neg t6_1).trans ((if_neg t6_2).trans ((if_pos t6_3).trans (rfl))))
    refine lv_aload_n hx hb dX2_count_91 rfl (lv_at hl 0 rfl) ?_
    refine t_get M hA hR 1 (by decide) q1040 rfl rfl dX2_count_92 ?_
    refine lv_iconst (v := (2 : Int32)) hx hb dX2_count_95 (by decide) ?_
    refine t_aldF M hA (by first | assumption | rfl) hR (by decide) 2 rfl (by decide) dX2_count_96 ?_
    exact g_iret M hr hlk hR hS (by omega) (by omega) dX2_count_97 (⟨hz.symm, _, rfl, (tQ.trans tQ.rf hq2 (by decide)), hF⟩)
  by_cases t6_4 : what = 4
  · refine lv_tableIn (off := 92) (tgt := 98) hx hb dX2_count_6 (by rw [t6_4]; decide) (by rw [t6_4]; decide) (by rw [t6_4]; decide) (by decide) ?_
    have hz : zCnt F N a n what = F 3 := (if_neg t6_0).trans ((if_neg t6_1).trans ((if_neg t6_2).trans ((if_neg t6_3).trans ((if_pos t6_4).trans (rfl)))))
    refine lv_aload_n hx hb dX2_count_98 rfl (lv_at hl 0 rfl) ?_
    refine t_get M hA hR 1 (by decide) q1040 rfl rfl dX2_count_99 ?_
    refine lv_iconst (v := (3 : Int32)) hx hb dX2_count_102 (by decide) ?_
    refine t_aldF M hA (by first | assumption | rfl) hR (by decide) 3 rfl (by decide) dX2_count_103 ?_
    exact g_iret M hr hlk hR hS (by omega) (by omega) dX2_count_104 (⟨hz.symm, _, rfl, (tQ.trans tQ.rf hq2 (by decide)), hF⟩)
  by_cases t6_5 : what = 5
  · refine lv_tableIn (off := 99) (tgt := 105) hx hb dX2_count_6 (by rw [t6_5]; decide) (by rw [t6_5]; decide) (by rw [t6_5]; decide) (by decide) ?_
    have hz : zCnt F N a n what = nI (fCnt (fun u => fWw F N what (nI u)) 0 16) := (if_neg t6_0).trans ((if_neg t6_1).trans ((if_neg t6_2).trans ((if_neg t6_3).trans ((if_neg t6_4).trans ((if_pos (Or.inl t6_5)).trans (rfl))))))
    refine lv_aload_n hx hb dX2_count_105 rfl (lv_at hl 0 rfl) ?_
    refine lv_iload_n hx hb dX2_count_106 rfl (lv_at hl 1 rfl) ?_
    refine g_ki (g_V (As := [_]) M hR hS (c_X2_words l K hA (by first | assumption | rfl) _ (by assumption)) (lw_V q1368 q1370 qs58 q73 q1371) 1 md_X2_words rfl ⟨rfl, rfl⟩ ⟨Nat.le_of_ble_eq_true rfl, Nat.le_of_ble_eq_true rfl⟩ (hR.recv M (tG_0 hA) rfl) rfl hl.1 rfl (lv_room (Nat.le_of_ble_eq_true rfl)) dX2_count_107 ⟨(by first | exact Nat.le_refl _ | exact Nat.zero_le _ | (dsimp only; omega)), (by first | exact Nat.le_refl _ | exact Nat.zero_le _ | (dsimp only; omega))⟩) hS (fun r107 G107 H locs hp107 hR hS => ?_)
    obtain ⟨rfl, V107, rfl, hs107⟩ := hp107
    have hF := hs107.row hF (by decide)
    exact g_iret M hr hlk hR hS (by omega) (by omega) dX2_count_110 (⟨hz.symm, _, rfl, (tQ.trans (tQ.trans tQ.rf hq2 (by decide)) hs107 (by decide)), hF⟩)
  by_cases t6_6 : what = 6
  · refine lv_tableIn (off := 99) (tgt := 105) hx hb dX2_count_6 (by rw [t6_6]; decide) (by rw [t6_6]; decide) (by rw [t6_6]; decide) (by decide) ?_
    have hz : zCnt F N a n what = nI (fCnt (fun u => fWw F N what (nI u)) 0 16) := (if_neg t6_0).trans ((if_neg t6_1).trans ((if_neg t6_2).trans ((if_neg t6_3).trans ((if_neg t6_4).trans ((if_pos (Or.inr (Or.inl t6_6))).trans (rfl))))))
    refine lv_aload_n hx hb dX2_count_105 rfl (lv_at hl 0 rfl) ?_
    refine lv_iload_n hx hb dX2_count_106 rfl (lv_at hl 1 rfl) ?_
    refine g_ki (g_V (As := [_]) M hR hS (c_X2_words l K hA (by first | assumption | rfl) _ (by assumption)) (lw_V q1368 q1370 qs58 q73 q1371) 1 md_X2_words rfl ⟨rfl, rfl⟩ ⟨Nat.le_of_ble_eq_true rfl, Nat.le_of_ble_eq_true rfl⟩ (hR.recv M (tG_0 hA) rfl) rfl hl.1 rfl (lv_room (Nat.le_of_ble_eq_true rfl)) dX2_count_107 ⟨(by first | exact Nat.le_refl _ | exact Nat.zero_le _ | (dsimp only; omega)), (by first | exact Nat.le_refl _ | exact Nat.zero_le _ | (dsimp only; omega))⟩) hS (fun r107 G107 H locs hp107 hR hS => ?_)
    obtain ⟨rfl, V107, rfl, hs107⟩ := hp107
    have hF := hs107.row hF (by decide)
    exact g_iret M hr hlk hR hS (by omega) (by omega) dX2_count_110 (⟨hz.symm, _, rfl, (tQ.trans (tQ.trans tQ.rf hq2 (by decide)) hs107 (by decide)), hF⟩)
  by_cases t6_7 : what = 7
  · refine lv_tableIn (off := 99) (tgt := 105) hx hb dX2_count_6 (by rw [t6_7]; decide) (by rw [t6_7]; decide) (by rw [t6_7]; decide) (by decide) ?_
    have hz : zCnt F N a n what = nI (fCnt (fun u => fWw F N what (nI u)) 0 16) := (if_neg t6_0).trans ((if_neg t6_1).trans ((if_neg t6_2).trans ((if_neg t6_3).trans ((if_neg t6_4).trans ((if_pos (Or.inr (Or.inr (Or.inl t6_7)))).trans (rfl))))))
    refine lv_aload_n hx hb dX2_count_105 rfl (lv_at hl 0 rfl) ?_
    refine lv_iload_n hx hb dX2_count_106 rfl (lv_at hl 1 rfl) ?_
    refine g_ki (g_V (As := [_]) M hR hS (c_X2_words l K hA (by first | assumption | rfl) _ (by assumption)) (lw_V q1368 q1370 qs58 q73 q1371) 1 md_X2_words rfl ⟨rfl, rfl⟩ ⟨Nat.le_of_ble_eq_true rfl, Nat.le_of_ble_eq_true rfl⟩ (hR.recv M (tG_0 hA) rfl) rfl hl.1 rfl (lv_room (Nat.le_of_ble_eq_true rfl)) dX2_count_107 ⟨(by first | exact Nat.le_refl _ | exact Nat.zero_le _ | (dsimp only; omega)), (by first | exact Nat.le_refl _ | exact Nat.zero_le _ | (dsimp only; omega))⟩) hS (fun r107 G107 H locs hp107 hR hS => ?_)
    obtain ⟨rfl, V107, rfl, hs107⟩ := hp107
    have hF := hs107.row hF (by decide)
    exact g_iret M hr hlk hR hS (by omega) (by omega) dX2_count_110 (⟨hz.symm, _, rfl, (tQ.trans (tQ.trans tQ.rf hq2 (by decide)) hs107 (by decide)), hF⟩)
  by_cases t6_8 : what = 8
  · refine lv_tableIn (off := 99) (tgt := 105) hx hb dX2_count_6 (by rw [t6_8]; decide) (by rw [t6_8]; decide) (by rw [t6_8]; decide) (by decide) ?_
    have hz : zCnt F N a n what = nI (fCnt (fun u => fWw F N what (nI u)) 0 16) := (if_neg t6_0).trans ((if_neg t6_1).trans ((if_neg t6_2).trans ((if_neg t6_3).trans ((if_neg t6_4).trans ((if_pos (Or.inr (Or.inr (Or.inr t6_8)))).trans (rfl))))))
    refine lv_aload_n hx hb dX2_count_105 rfl (lv_at hl 0 rfl) ?_
    refine lv_iload_n hx hb dX2_count_106 rfl (lv_at hl 1 rfl) ?_
    refine g_ki (g_V (As := [_]) M hR hS (c_X2_words l K hA (by first | assumption | rfl) _ (by assumption)) (lw_V q1368 q1370 qs58 q73 q1371) 1 md_X2_words rfl ⟨rfl, rfl⟩ ⟨Nat.le_of_ble_eq_true rfl, Nat.le_of_ble_eq_true rfl⟩ (hR.recv M (tG_0 hA) rfl) rfl hl.1 rfl (lv_room (Nat.le_of_ble_eq_true rfl)) dX2_count_107 ⟨(by first | exact Nat.le_refl _ | exact Nat.zero_le _ | (dsimp only; omega)), (by first | exact Nat.le_refl _ | exact Nat.zero_le _ | (dsimp only; omega))⟩) hS (fun r107 G107 H locs hp107 hR hS => ?_)
    obtain ⟨rfl, V107, rfl, hs107⟩ := hp107
    have hF := hs107.row hF (by decide)
    exact g_iret M hr hlk hR hS (by omega) (by omega) dX2_count_110 (⟨hz.symm, _, rfl, (tQ.trans (tQ.trans tQ.rf hq2 (by decide)) hs107 (by decide)), hF⟩)
  by_cases t6_9 : what = 9
  · refine lv_tableIn (off := 105) (tgt := 111) hx hb dX2_count_6 (by rw [t6_9]; decide) (by rw [t6_9]; decide) (by rw [t6_9]; decide) (by decide) ?_
    have hz : zCnt F N a n what = F 4 := (if_neg t6_0).trans ((if_neg t6_1).trans ((if_neg t6_2).trans ((if_neg t6_3).trans ((if_neg t6_4).trans ((if_neg (fun z => z.elim t6_5 (fun z => z.elim t6_6 (fun z => z.elim t6_7 t6_8)))).trans ((if_pos t6_9).trans (rfl)))))))
    refine lv_aload_n hx hb dX2_count_111 rfl (lv_at hl 0 rfl) ?_
    refine t_get M hA hR 1 (by decide) q1040 rfl rfl dX2_count_112 ?_
    refine lv_iconst (v := (4 : Int32)) hx hb dX2_count_115 (by decide) ?_
    refine t_aldF M hA (by first | assumption | rfl) hR (by decide) 4 rfl (by decide) dX2_count_116 ?_
    exact g_iret M hr hlk hR hS (by omega) (by omega) dX2_count_117 (⟨hz.symm, _, rfl, (tQ.trans tQ.rf hq2 (by decide)), hF⟩)
  by_cases t6_10 : what = 10
  · refine lv_tableIn (off := 112) (tgt := 118) hx hb dX2_count_6 (by rw [t6_10]; decide) (by rw [t6_10]; decide) (by rw [t6_10]; decide) (by decide) ?_
    have hz : zCnt F N a n what = F 5 := (if_neg t6_0).trans ((if_neg t6_1).trans ((if_neg t6_2).trans ((if_neg t6_3).trans ((if_neg t6_4).trans ((if_neg (fun z => z.elim t6_5 (fun z => z.elim t6_6 (fun z => z.elim t6_7 t6_8)))).trans ((if_neg t6_9).trans ((if_pos t6_10).trans (rfl))))))))
    refine lv_aload_n hx hb dX2_count_118 rfl (lv_at hl 0 rfl) ?_
    refine t_get M hA hR 1 (by decide) q1040 rfl rfl dX2_count_119 ?_
    refine lv_iconst (v := (5 : Int32)) hx hb dX2_count_122 (by decide) ?_
    refine t_aldF M hA (by first | assumption | rfl) hR (by decide) 5 rfl (by decide) dX2_count_123 ?_
    exact g_iret M hr hlk hR hS (by omega) (by omega) dX2_count_124 (⟨hz.symm, _, rfl, (tQ.trans tQ.rf hq2 (by decide)), hF⟩)
  by_cases t6_11 : what = 11
  · refine lv_tableIn (off := 119) (tgt := 125) hx hb dX2_count_6 (by rw [t6_11]; decide) (by rw [t6_11]; decide) (by rw [t6_11]; decide) (by decide) ?_
    have hz : zCnt F N a n what = nI a := (if_neg t6_0).trans ((if_neg t6_1).trans ((if_neg t6_2).trans ((if_neg t6_3).trans ((if_neg t6_4).trans ((if_neg (fun z => z.elim t6_5 (fun z => z.elim t6_6 (fun z => z.elim t6_7 t6_8)))).trans ((if_neg t6_9).trans ((if_neg t6_10).trans ((if_pos t6_11).trans (rfl)))))))))
    refine lv_aload_n hx hb dX2_count_125 rfl (lv_at hl 0 rfl) ?_
    refine t_getE M hA hR 6 (by decide) ((hq2.fld (by decide)).trans ha) q1045 rfl dX2_count_126 ?_
    exact g_iret M hr hlk hR hS (by omega) (by omega) dX2_count_129 (⟨hz.symm, _, rfl, (tQ.trans tQ.rf hq2 (by decide)), hF⟩)
  by_cases t6_12 : what = 12
  · refine lv_tableIn (off := 124) (tgt := 130) hx hb dX2_count_6 (by rw [t6_12]; decide) (by rw [t6_12]; decide) (by rw [t6_12]; decide) (by decide) ?_
    have hz : zCnt F N a n what = nI n := (if_neg t6_0).trans ((if_neg t6_1).trans ((if_neg t6_2).trans ((if_neg t6_3).trans ((if_neg t6_4).trans ((if_neg (fun z => z.elim t6_5 (fun z => z.elim t6_6 (fun z => z.elim t6_7 t6_8)))).trans ((if_neg t6_9).trans ((if_neg t6_10).trans ((if_neg t6_11).trans ((if_pos t6_12).trans (rfl))))))))))
    refine lv_aload_n hx hb dX2_count_130 rfl (lv_at hl 0 rfl) ?_
    refine t_getE M hA hR 8 (by decide) ((hq2.fld (by decide)).trans hn) q1047 rfl dX2_count_131 ?_
    exact g_iret M hr hlk hR hS (by omega) (by omega) dX2_count_134 (⟨hz.symm, _, rfl, (tQ.trans tQ.rf hq2 (by decide)), hF⟩)
  refine lv_tableOut (tgt := 135) hx hb dX2_count_6 (tb_out (n := 12) (by decide) (fun k hk => ?_)) (by decide) ?_
  · rcases (by omega : k = 0 ∨ k = 1 ∨ k = 2 ∨ k = 3 ∨ k = 4 ∨ k = 5 ∨ k = 6 ∨ k = 7 ∨ k = 8 ∨ k = 9 ∨ k = 10 ∨ k = 11 ∨ k = 12) with q | q | q | q | q | q | q | q | q | q | q | q | q <;> subst q
    · exact t6_0
    · exact t6_1
    · exact t6_2
    · exact t6_3
    · exact t6_4
    · exact t6_5
    · exact t6_6
    · exact t6_7
    · exact t6_8
    · exact t6_9
    · exact t6_10
    · exact t6_11
    · exact t6_12
  have hz : zCnt F N a n what = -2 := (if_neg t6_0).trans ((if_neg t6_1).trans ((if_neg t6_2).trans ((if_neg t6_3).trans ((if_neg t6_4).trans ((if_neg (fun z => z.elim t6_5 (fun z => z.elim t6_6 (fun z => z.elim t6_7 t6_8)))).trans ((if_neg t6_9).trans ((if_neg t6_10).trans ((if_neg t6_11).trans ((if_neg t6_12).trans (rfl))))))))))
  refine lv_bipush (v := ((-2) : Int32)) hx hb dX2_count_135 (by decide) ?_
  exact g_iret M hr hlk hR hS (by omega) (by omega) dX2_count_137 (⟨hz.symm, _, rfl, (tQ.trans tQ.rf hq2 (by decide)), hF⟩)

theorem md_X2_stormsLeft : gMd yX2_stormsLeft 2 := by
  unfold gMd
  decide +kernel
set_option maxHeartbeats 4000000 in
set_option maxRecDepth 100000 in
theorem c_X2_stormsLeft (l : Launch) (K : gK) {G0 : gG} {A : Nat → Nat} {V : tV} {F : Nat → Int32} (hA : tInj A) (hF : V.2.1 1 = F) (o b : Int32) {P N : Nat} (ok : fOk F P N) : Met l yX2_stormsLeft (ws_ yX2_stormsLeft cX2_stormsLeft 5 (Option.some Jvm.ClassFile.FieldType.int)) (gRm 5 0 0 112) (gPre K [.ref (A 0), .int o, .int b] (tG K G0 A V)) (gQi K (fun r G1 => r = zSl F N o b ∧ ∃ V1, G1 = tG K G0 A V1 ∧ tRes V V1 F)) 0 0 (gA K) := by
  refine g_met (by decide) (Nat.le_of_ble_eq_true rfl) ?_
  intro p e s m below meth c M hr hlk hnm hR ls hl
  have M : gM K p s m _ c cX2_stormsLeft 5 RX2 := M
  have hx := M.hx
  have hb := M.hb
  have hS : va_S (gA K) s.heap s.heap [] := va_S.rf
  have hl : lv_has ls 5 [(0, .ref (A 0)), (1, .int o), (2, .int b)] := hl
  have hF0 := hF
  have hN := ok.hN
  have hN2 := ok.hN2
  refine lv_aload_n hx hb dX2_stormsLeft_0 rfl (lv_at hl 0 rfl) ?_
  refine g_kv (g_V (As := []) M hR hS (c_X2_aside l K hA (by first | assumption | rfl)) (lw_V q1094 q1096 qs22 q73 q1097) 0 md_X2_aside rfl ⟨rfl, rfl⟩ ⟨Nat.le_of_ble_eq_true rfl, Nat.le_of_ble_eq_true rfl⟩ (hR.recv M (tG_0 hA) rfl) rfl hl.1 rfl (lv_room (Nat.le_of_ble_eq_true rfl)) dX2_stormsLeft_1 ⟨(by first | exact Nat.le_refl _ | exact Nat.zero_le _ | (dsimp only; omega)), (by first | exact Nat.le_refl _ | exact Nat.zero_le _ | (dsimp only; omega))⟩) hS (fun G1 H locs hp1 hR hS => ?_)
  obtain ⟨V1, rfl, hs1, hput⟩ := hp1
  have hF := hs1.row hF (by decide)
  refine lv_aload_n hx hb dX2_stormsLeft_4 rfl (lv_at hl 0 rfl) ?_
  refine lv_iload_n hx hb dX2_stormsLeft_5 rfl (lv_at hl 1 rfl) ?_
  refine g_ki (g_V (As := [_]) M hR hS (c_X2_isOrder l K hA (by first | assumption | rfl) _) (lw_V q1165 q1167 qs28 q73 q1168) 1 md_X2_isOrder rfl ⟨rfl, rfl⟩ ⟨Nat.le_of_ble_eq_true rfl, Nat.le_of_ble_eq_true rfl⟩ (hR.recv M (tG_0 hA) rfl) rfl hl.1 rfl (lv_room (Nat.le_of_ble_eq_true rfl)) dX2_stormsLeft_6 ⟨(by first | exact Nat.le_refl _ | exact Nat.zero_le _ | (dsimp only; omega)), (by first | exact Nat.le_refl _ | exact Nat.zero_le _ | (dsimp only; omega))⟩) hS (fun r6 G6 H locs hp6 hR hS => ?_)
  obtain ⟨rfl, rfl⟩ := hp6
  refine lv_if_ne (tgt := 14) hx hb dX2_stormsLeft_9 (by decide) (fun c9 => ?_) (fun c9 => ?_)
  · have ho1 := bI_n0.mp c9
    obtain ⟨o9, ho9, rfl⟩ := fIn_nI (by rw [← hN]; exact ho1) (by omega)
    have hzo : zN (nI o9) = o9 := zN_k ho9 hN2
    have ho2 : ¬ fIn (nI o9) 0 (F 1 - 1) = false := by rw [ho1]; decide
    refine lv_iload_n hx hb dX2_stormsLeft_14 rfl (lv_at hl 2 rfl) ?_
    refine g_ki (g_S (As := [_]) M hR hS (c_X2_isForce l K _) (lw_S q1144 q1145 q73 q1146) 1 md_X2_isForce ⟨rfl, rfl⟩ ⟨Nat.le_of_ble_eq_true rfl, Nat.le_of_ble_eq_true rfl⟩ rfl hl.1 rfl (lv_room (Nat.le_of_ble_eq_true rfl)) dX2_stormsLeft_15 ⟨(by first | exact Nat.le_refl _ | exact Nat.zero_le _ | (dsimp only; omega)), (by first | exact Nat.le_refl _ | exact Nat.zero_le _ | (dsimp only; omega))⟩) hS (fun r15 G15 H locs hp15 hR hS => ?_)
    obtain ⟨rfl, e0⟩ := hp15
    rw [e0] at hR
    refine lv_if_ne (tgt := 24) hx hb dX2_stormsLeft_18 (by decide) (fun c18 => ?_) (fun c18 => ?_)
    · have hb1 := bI_n0.mp c18
      have hb2 : ¬ fFrom b 1036831949 1092616192 = false := by rw [hb1]; decide
      refine lv_aload_n hx hb dX2_stormsLeft_24 rfl (lv_at hl 0 rfl) ?_
      refine lv_iload_n hx hb dX2_stormsLeft_25 rfl (lv_at hl 1 rfl) ?_
      refine g_ki (g_V (As := [_]) M hR hS (c_X2_hangs l K hA (by first | assumption | rfl) o9 (by omega)) (lw_V q1169 q1171 qs29 q73 q1172) 1 md_X2_hangs rfl ⟨rfl, rfl⟩ ⟨Nat.le_of_ble_eq_true rfl, Nat.le_of_ble_eq_true rfl⟩ (hR.recv M (tG_0 hA) rfl) rfl hl.1 rfl (lv_room (Nat.le_of_ble_eq_true rfl)) dX2_stormsLeft_26 ⟨(by first | exact Nat.le_refl _ | exact Nat.zero_le _ | (dsimp only; omega)), (by first | exact Nat.le_refl _ | exact Nat.zero_le _ | (dsimp only; omega))⟩) hS (fun r26 G26 H locs hp26 hR hS => ?_)
      obtain ⟨rfl, rfl⟩ := hp26
      refine lv_if_ne (tgt := 35) hx hb dX2_stormsLeft_29 (by decide) (fun c29 => ?_) (fun c29 => ?_)
      · have hz : zSl F N (nI o9) b = oI (fSl N b.toUInt32 o9 200 0 F) := (if_neg ho2).trans ((if_neg hb2).trans ((if_neg (by rw [hzo, bI_n0.mp c29]; decide)).trans (by rw [hzo])))
        refine lv_iconst (v := (0 : Int32)) hx hb dX2_stormsLeft_35 (by decide) ?_
        refine lv_istore_n (lv' := [(3, _), (0, _), (1, _), (2, _)]) hx hb dX2_stormsLeft_36 rfl hl (by decide) rfl (fun ls hl => ?_)
        refine g_loop (pc := 37) (fun (k : Nat) (ls : Array Slot) (G : gG) (cells slots : Nat) => ∃ j V1 Fj, lv_has ls 5 [(3, .int (nI j)), (2, .int b), (1, .int (nI o9)), (0, .ref (A 0))] ∧ j ≤ 200 ∧ k = 200 - j ∧ tQ [0, 1, 2] V V1 ∧ V1.2.1 2 = F ∧ V1.2.1 1 = Fj ∧ fOk Fj P N ∧ fSl N b.toUInt32 o9 200 0 F = fSl N b.toUInt32 o9 (200 - j) j Fj ∧ G = tG K G0 A V1 ∧ cells = 0 ∧ slots = 0) ?_ (200) ⟨0, _, F, lv_sub hl [0, 3, 2, 1] rfl, by omega, rfl, (tQ.trans tQ.rf hs1 (by decide)), hput, hF, ok, rfl, rfl, rfl, rfl⟩ hR hS
        intro k ls G H locs cells slots hI hR hS ih37
        obtain ⟨j, V1, Fj, hl, hj, rfl, hs, hput, hF, okj, he, rfl, rfl, rfl⟩ := hI
        refine lv_iload_n hx hb dX2_stormsLeft_37 rfl (lv_at hl 0 rfl) ?_
        refine lv_sipush (v := (200 : Int32)) hx hb dX2_stormsLeft_38 (by decide) ?_
        refine lv_icmp_ge (tgt := 67) hx hb dX2_stormsLeft_41 (by decide) (fun c41 => ?_) (fun c41 => ?_)
        · refine lv_aload_n hx hb dX2_stormsLeft_67 rfl (lv_at hl 3 rfl) ?_
          refine lv_iload_n hx hb dX2_stormsLeft_68 rfl (lv_at hl 2 rfl) ?_
          refine g_ki (g_V (As := [_]) M hR hS (c_X2_hangs l K hA (by first | assumption | rfl) o9 (by omega)) (lw_V q1169 q1171 qs29 q73 q1172) 1 md_X2_hangs rfl ⟨rfl, rfl⟩ ⟨Nat.le_of_ble_eq_true rfl, Nat.le_of_ble_eq_true rfl⟩ (hR.recv M (tG_0 hA) rfl) rfl hl.1 rfl (lv_room (Nat.le_of_ble_eq_true rfl)) dX2_stormsLeft_69 ⟨(by first | exact Nat.le_refl _ | exact Nat.zero_le _ | (dsimp only; omega)), (by first | exact Nat.le_refl _ | exact Nat.zero_le _ | (dsimp only; omega))⟩) hS (fun r69 G69 H locs hp69 hR hS => ?_)
          obtain ⟨rfl, rfl⟩ := hp69
          refine lv_if_ne (tgt := 79) hx hb dX2_stormsLeft_72 (by decide) (fun c72 => ?_) (fun c72 => ?_)
          · have he := he.trans ((by rw [show 200 - j = 0 by have := eq_of_ge (n := 200) c41 hj (by decide); omega]; exact if_pos (bI_n0.mp c72)) : fSl N b.toUInt32 o9 (200 - j) j Fj = none)
            refine lv_iconst (v := (0 : Int32)) hx hb dX2_stormsLeft_79 (by decide) ?_
            refine lv_istore (lv' := [(4, _), (3, _), (2, _), (1, _), (0, _)]) hx hb dX2_stormsLeft_80 hl (by decide) rfl (fun ls hl => ?_)
            refine lv_aload_n hx hb dX2_stormsLeft_82 rfl (lv_at hl 4 rfl) ?_
            refine g_kv (g_V (As := []) M hR hS (c_X2_putBack l K hA hput) (lw_V q1245 q1247 qs42 q73 q1248) 0 md_X2_putBack rfl ⟨rfl, rfl⟩ ⟨Nat.le_of_ble_eq_true rfl, Nat.le_of_ble_eq_true rfl⟩ (hR.recv M (tG_0 hA) rfl) rfl hl.1 rfl (lv_room (Nat.le_of_ble_eq_true rfl)) dX2_stormsLeft_83 ⟨(by first | exact Nat.le_refl _ | exact Nat.zero_le _ | (dsimp only; omega)), (by first | exact Nat.le_refl _ | exact Nat.zero_le _ | (dsimp only; omega))⟩) hS (fun G83 H locs hp83 hR hS => ?_)
            obtain ⟨V83, rfl, hs83, hF⟩ := hp83
            refine lv_iload hx hb dX2_stormsLeft_86 (lv_at hl 0 rfl) ?_
            refine lv_if_eq (tgt := 95) hx hb dX2_stormsLeft_88 (by decide) (fun c88 => ?_) (fun c88 => absurd c88 (not_not_intro rfl))
            refine lv_bipush (v := ((-5) : Int32)) hx hb dX2_stormsLeft_95 (by decide) ?_
            exact g_iret M hr hlk hR hS (by omega) (by omega) dX2_stormsLeft_97 (⟨by rw [hz, he]; rfl, _, rfl, (tQ.trans (tQ.trans tQ.rf hs (by decide)) hs83 (by decide)), hF⟩)
          · have he := he.trans ((by rw [show 200 - j = 0 by have := eq_of_ge (n := 200) c41 hj (by decide); omega]; exact if_neg (by rw [bI_0.mp c72]; decide)) : fSl N b.toUInt32 o9 (200 - j) j Fj = some j)
            refine lv_iconst (v := (1 : Int32)) hx hb dX2_stormsLeft_75 (by decide) ?_
            refine lv_goto (tgt := 80) hx hb dX2_stormsLeft_76 (by decide) ?_
            refine lv_istore (lv' := [(4, _), (3, _), (2, _), (1, _), (0, _)]) hx hb dX2_stormsLeft_80 hl (by decide) rfl (fun ls hl => ?_)
            refine lv_aload_n hx hb dX2_stormsLeft_82 rfl (lv_at hl 4 rfl) ?_
            refine g_kv (g_V (As := []) M hR hS (c_X2_putBack l K hA hput) (lw_V q1245 q1247 qs42 q73 q1248) 0 md_X2_putBack rfl ⟨rfl, rfl⟩ ⟨Nat.le_of_ble_eq_true rfl, Nat.le_of_ble_eq_true rfl⟩ (hR.recv M (tG_0 hA) rfl) rfl hl.1 rfl (lv_room (Nat.le_of_ble_eq_true rfl)) dX2_stormsLeft_83 ⟨(by first | exact Nat.le_refl _ | exact Nat.zero_le _ | (dsimp only; omega)), (by first | exact Nat.le_refl _ | exact Nat.zero_le _ | (dsimp only; omega))⟩) hS (fun G83 H locs hp83 hR hS => ?_)
            obtain ⟨V83, rfl, hs83, hF⟩ := hp83
            refine lv_iload hx hb dX2_stormsLeft_86 (lv_at hl 0 rfl) ?_
            refine lv_if_eq (tgt := 95) hx hb dX2_stormsLeft_88 (by decide) (fun c88 => absurd c88 (by decide)) (fun c88 => ?_)
            refine lv_iload_n hx hb dX2_stormsLeft_91 rfl (lv_at hl 1 rfl) ?_
            refine lv_goto (tgt := 97) hx hb dX2_stormsLeft_92 (by decide) ?_
            exact g_iret M hr hlk hR hS (by omega) (by omega) dX2_stormsLeft_97 (⟨by rw [hz, he]; rfl, _, rfl, (tQ.trans (tQ.trans tQ.rf hs (by decide)) hs83 (by decide)), hF⟩)
        · have hj2 : j < 200 := lt_of_not (n := 200) c41 (by omega)
          refine lv_aload_n hx hb dX2_stormsLeft_44 rfl (lv_at hl 3 rfl) ?_
          refine lv_iload_n hx hb dX2_stormsLeft_45 rfl (lv_at hl 2 rfl) ?_
          refine g_ki (g_V (As := [_]) M hR hS (c_X2_hangs l K hA (by first | assumption | rfl) o9 (by omega)) (lw_V q1169 q1171 qs29 q73 q1172) 1 md_X2_hangs rfl ⟨rfl, rfl⟩ ⟨Nat.le_of_ble_eq_true rfl, Nat.le_of_ble_eq_true rfl⟩ (hR.recv M (tG_0 hA) rfl) rfl hl.1 rfl (lv_room (Nat.le_of_ble_eq_true rfl)) dX2_stormsLeft_46 ⟨(by first | exact Nat.le_refl _ | exact Nat.zero_le _ | (dsimp only; omega)), (by first | exact Nat.le_refl _ | exact Nat.zero_le _ | (dsimp only; omega))⟩) hS (fun r46 G46 H locs hp46 hR hS => ?_)
          obtain ⟨rfl, rfl⟩ := hp46
          refine lv_if_eq (tgt := 67) hx hb dX2_stormsLeft_49 (by decide) (fun c49 => ?_) (fun c49 => ?_)
          · refine lv_aload_n hx hb dX2_stormsLeft_67 rfl (lv_at hl 3 rfl) ?_
            refine lv_iload_n hx hb dX2_stormsLeft_68 rfl (lv_at hl 2 rfl) ?_
            refine g_ki (g_V (As := [_]) M hR hS (c_X2_hangs l K hA (by first | assumption | rfl) o9 (by omega)) (lw_V q1169 q1171 qs29 q73 q1172) 1 md_X2_hangs rfl ⟨rfl, rfl⟩ ⟨Nat.le_of_ble_eq_true rfl, Nat.le_of_ble_eq_true rfl⟩ (hR.recv M (tG_0 hA) rfl) rfl hl.1 rfl (lv_room (Nat.le_of_ble_eq_true rfl)) dX2_stormsLeft_69 ⟨(by first | exact Nat.le_refl _ | exact Nat.zero_le _ | (dsimp only; omega)), (by first | exact Nat.le_refl _ | exact Nat.zero_le _ | (dsimp only; omega))⟩) hS (fun r69 G69 H locs hp69 hR hS => ?_)
            obtain ⟨rfl, rfl⟩ := hp69
            refine lv_if_ne (tgt := 79) hx hb dX2_stormsLeft_72 (by decide) (fun c72 => absurd c72 (not_not_intro c49)) (fun c72 => ?_)
            have he := he.trans ((by rw [show 200 - j = (200 - (j + 1)) + 1 by omega]; exact if_neg (by rw [bI_0.mp c49]; decide)) : fSl N b.toUInt32 o9 (200 - j) j Fj = some j)
            refine lv_iconst (v := (1 : Int32)) hx hb dX2_stormsLeft_75 (by decide) ?_
            refine lv_goto (tgt := 80) hx hb dX2_stormsLeft_76 (by decide) ?_
            refine lv_istore (lv' := [(4, _), (3, _), (2, _), (1, _), (0, _)]) hx hb dX2_stormsLeft_80 hl (by decide) rfl (fun ls hl => ?_)
            refine lv_aload_n hx hb dX2_stormsLeft_82 rfl (lv_at hl 4 rfl) ?_
            refine g_kv (g_V (As := []) M hR hS (c_X2_putBack l K hA hput) (lw_V q1245 q1247 qs42 q73 q1248) 0 md_X2_putBack rfl ⟨rfl, rfl⟩ ⟨Nat.le_of_ble_eq_true rfl, Nat.le_of_ble_eq_true rfl⟩ (hR.recv M (tG_0 hA) rfl) rfl hl.1 rfl (lv_room (Nat.le_of_ble_eq_true rfl)) dX2_stormsLeft_83 ⟨(by first | exact Nat.le_refl _ | exact Nat.zero_le _ | (dsimp only; omega)), (by first | exact Nat.le_refl _ | exact Nat.zero_le _ | (dsimp only; omega))⟩) hS (fun G83 H locs hp83 hR hS => ?_)
            obtain ⟨V83, rfl, hs83, hF⟩ := hp83
            refine lv_iload hx hb dX2_stormsLeft_86 (lv_at hl 0 rfl) ?_
            refine lv_if_eq (tgt := 95) hx hb dX2_stormsLeft_88 (by decide) (fun c88 => absurd c88 (by decide)) (fun c88 => ?_)
            refine lv_iload_n hx hb dX2_stormsLeft_91 rfl (lv_at hl 1 rfl) ?_
            refine lv_goto (tgt := 97) hx hb dX2_stormsLeft_92 (by decide) ?_
            exact g_iret M hr hlk hR hS (by omega) (by omega) dX2_stormsLeft_97 (⟨by rw [hz, he]; rfl, _, rfl, (tQ.trans (tQ.trans tQ.rf hs (by decide)) hs83 (by decide)), hF⟩)
          · have he := he.trans ((by rw [show 200 - j = (200 - (j + 1)) + 1 by omega]; exact if_pos (bI_n0.mp c49)) : fSl N b.toUInt32 o9 (200 - j) j Fj = fSl N b.toUInt32 o9 (200 - (j + 1)) (j + 1) (fSt Fj N b.toUInt32))
            refine lv_aload_n hx hb dX2_stormsLeft_52 rfl (lv_at hl 3 rfl) ?_
            refine lv_iload_n hx hb dX2_stormsLeft_53 rfl (lv_at hl 1 rfl) ?_
            refine g_i2f M hl.1 q1123 q428 q427 q78 (sn_ok (fFrom_re hb1)) dX2_stormsLeft_54 (Nat.le_of_ble_eq_true rfl) (Nat.le_of_ble_eq_true rfl) ?_
            refine g_ki (g_V (As := [_]) M hR hS (c_X2_storms l K hA (by first | assumption | rfl) _ (fFrom_S hb1) okj) (lw_V q1202 q1204 qs35 q73 q1205) 1 md_X2_storms rfl ⟨rfl, rfl⟩ ⟨Nat.le_of_ble_eq_true rfl, Nat.le_of_ble_eq_true rfl⟩ (hR.recv M (tG_0 hA) rfl) rfl hl.1 rfl (lv_room (Nat.le_of_ble_eq_true rfl)) dX2_stormsLeft_57 ⟨(by first | exact Nat.le_refl _ | exact Nat.zero_le _ | (dsimp only; omega)), (by first | exact Nat.le_refl _ | exact Nat.zero_le _ | (dsimp only; omega))⟩) hS (fun r57 G57 H locs hp57 hR hS => ?_)
            obtain ⟨rfl, V57, rfl, hs57, hF⟩ := hp57
            refine lv_pop hx hb dX2_stormsLeft_60 rfl ?_
            refine g_inc (lv' := [(3, _), (2, _), (1, _), (0, _)]) M dX2_stormsLeft_61 hl (k := 0) rfl (by decide) rfl (fun ls hl => ?_)
            refine lv_goto (tgt := 37) hx hb dX2_stormsLeft_64 (by decide) ?_
            exact ih37 (200 - (j + 1)) _ _ _ _ _ _ (by omega) ⟨j + 1, _, _, lv_sub hl [0, 1, 2, 3] rfl, by omega, rfl, (tQ.trans (tQ.trans tQ.rf hs (by decide)) hs57 (by decide)), (hs57.arr (by decide)).trans hput, hF, okj.storm (fFrom_S hb1), he, rfl, rfl, rfl⟩ hR hS
      · have hz : zSl F N (nI o9) b = -5 := (if_neg ho2).trans ((if_neg hb2).trans (if_pos (by rw [hzo]; exact bI_0.mp c29)))
        refine lv_bipush (v := ((-5) : Int32)) hx hb dX2_stormsLeft_32 (by decide) ?_
        exact g_iret M hr hlk hR hS (by omega) (by omega) dX2_stormsLeft_34 (⟨hz.symm, _, rfl, (tQ.trans tQ.rf hs1 (by decide)), hF⟩)
    · have hz : zSl F N (nI o9) b = -2 := (if_neg ho2).trans (if_pos (bI_0.mp c18))
      refine lv_bipush (v := ((-2) : Int32)) hx hb dX2_stormsLeft_21 (by decide) ?_
      exact g_iret M hr hlk hR hS (by omega) (by omega) dX2_stormsLeft_23 (⟨hz.symm, _, rfl, (tQ.trans tQ.rf hs1 (by decide)), hF⟩)
  · have hz : zSl F N o b = -1 := if_pos (bI_0.mp c9)
    refine lv_iconst (v := ((-1) : Int32)) hx hb dX2_stormsLeft_12 (by decide) ?_
    exact g_iret M hr hlk hR hS (by omega) (by omega) dX2_stormsLeft_13 (⟨hz.symm, _, rfl, (tQ.trans tQ.rf hs1 (by decide)), hF⟩)

theorem md_X2_changesWithout : gMd yX2_changesWithout 1 := by
  unfold gMd
  decide +kernel
set_option maxHeartbeats 4000000 in
set_option maxRecDepth 100000 in
theorem c_X2_changesWithout (l : Launch) (K : gK) {G0 : gG} {A : Nat → Nat} {V : tV} {F : Nat → Int32} (hA : tInj A) (hF : V.2.1 1 = F) (o : Int32) {P N : Nat} (ok : fOk F P N) : Met l yX2_changesWithout (ws_ yX2_changesWithout cX2_changesWithout 5 (Option.some Jvm.ClassFile.FieldType.int)) (gRm 6 0 0 135) (gPre K [.ref (A 0), .int o] (tG K G0 A V)) (gQi K (fun r G1 => r = zChg F N o ∧ ∃ V1, G1 = tG K G0 A V1 ∧ tRes V V1 F)) 0 0 (gA K) := by
  refine g_met (by decide) (Nat.le_of_ble_eq_true rfl) ?_
  intro p e s m below meth c M hr hlk hnm hR ls hl
  have M : gM K p s m _ c cX2_changesWithout 5 RX2 := M
  have hx := M.hx
  have hb := M.hb
  have hS : va_S (gA K) s.heap s.heap [] := va_S.rf
  have hl : lv_has ls 5 [(0, .ref (A 0)), (1, .int o)] := hl
  have hF0 := hF
  have hN := ok.hN
  have hN2 := ok.hN2
  refine lv_aload_n hx hb dX2_changesWithout_0 rfl (lv_at hl 0 rfl) ?_
  refine lv_iconst (v := (0 : Int32)) hx hb dX2_changesWithout_1 (by decide) ?_
  refine t_putQ M hA hR hS 0 (by decide) q1039 ⟨rfl, rfl⟩ rfl rfl dX2_changesWithout_2 (fun V2 H locs hq2 hw2 hz2 hR hS => ?_)
  have hF := hq2.row hF (by decide)
  refine lv_aload_n hx hb dX2_changesWithout_5 rfl (lv_at hl 0 rfl) ?_
  refine lv_iload_n hx hb dX2_changesWithout_6 rfl (lv_at hl 1 rfl) ?_
  refine g_ki (g_V (As := [_]) M hR hS (c_X2_isOrder l K hA (by first | assumption | rfl) _) (lw_V q1165 q1167 qs28 q73 q1168) 1 md_X2_isOrder rfl ⟨rfl, rfl⟩ ⟨Nat.le_of_ble_eq_true rfl, Nat.le_of_ble_eq_true rfl⟩ (hR.recv M (tG_0 hA) rfl) rfl hl.1 rfl (lv_room (Nat.le_of_ble_eq_true rfl)) dX2_changesWithout_7 ⟨(by first | exact Nat.le_refl _ | exact Nat.zero_le _ | (dsimp only; omega)), (by first | exact Nat.le_refl _ | exact Nat.zero_le _ | (dsimp only; omega))⟩) hS (fun r7 G7 H locs hp7 hR hS => ?_)
  obtain ⟨rfl, rfl⟩ := hp7
  refine lv_if_ne (tgt := 15) hx hb dX2_changesWithout_10 (by decide) (fun c10 => ?_) (fun c10 => ?_)
  · have ho1 := bI_n0.mp c10
    obtain ⟨o9, ho9, rfl⟩ := fIn_nI (by rw [← hN]; exact ho1) (by omega)
    have hzo : zN (nI o9) = o9 := zN_k ho9 hN2
    have ho2 : ¬ fIn (nI o9) 0 (F 1 - 1) = false := by rw [ho1]; decide
    refine lv_aload_n hx hb dX2_changesWithout_15 rfl (lv_at hl 0 rfl) ?_
    refine lv_iload_n hx hb dX2_changesWithout_16 rfl (lv_at hl 1 rfl) ?_
    refine g_ki (g_V (As := [_]) M hR hS (c_X2_hangs l K hA (by first | assumption | rfl) o9 (by omega)) (lw_V q1169 q1171 qs29 q73 q1172) 1 md_X2_hangs rfl ⟨rfl, rfl⟩ ⟨Nat.le_of_ble_eq_true rfl, Nat.le_of_ble_eq_true rfl⟩ (hR.recv M (tG_0 hA) rfl) rfl hl.1 rfl (lv_room (Nat.le_of_ble_eq_true rfl)) dX2_changesWithout_17 ⟨(by first | exact Nat.le_refl _ | exact Nat.zero_le _ | (dsimp only; omega)), (by first | exact Nat.le_refl _ | exact Nat.zero_le _ | (dsimp only; omega))⟩) hS (fun r17 G17 H locs hp17 hR hS => ?_)
    obtain ⟨rfl, rfl⟩ := hp17
    refine lv_if_ne (tgt := 26) hx hb dX2_changesWithout_20 (by decide) (fun c20 => ?_) (fun c20 => ?_)
    · have hh := bI_n0.mp c20
      have hz : zChg F N (nI o9) = nI (fCnt (fun u => fDf F (fVl F N 17 (nI u)) (fVl (fOff F o9) N 17 (nI u))) 0 16) := (if_neg ho2).trans ((if_neg (by rw [hzo, hh]; decide)).trans (by rw [hzo]))
      have ok2 : fOk (fOff F o9) P N := ok.off
      refine lv_iconst (v := (0 : Int32)) hx hb dX2_changesWithout_26 (by decide) ?_
      refine lv_istore_n (lv' := [(2, _), (0, _), (1, _)]) hx hb dX2_changesWithout_27 rfl hl (by decide) rfl (fun ls hl => ?_)
      refine g_loop (pc := 28) (fun (k : Nat) (ls : Array Slot) (G : gG) (cells slots : Nat) => ∃ j V1, lv_has ls 5 [(2, .int (nI j)), (1, .int (nI o9)), (0, .ref (A 0))] ∧ j ≤ 16 ∧ k = 16 - j ∧ tQ tX V V1 ∧ V1.2.1 1 = F ∧ (∀ i, i < j → V1.2.1 14 i = bI (fVl F N 17 (nI i)).isSome) ∧ (∀ i, i < j → (∀ v, fVl F N 17 (nI i) = some v → V1.2.2 i = v) ∧ fVb (V1.2.2 i)) ∧ G = tG K G0 A V1 ∧ cells = 0 ∧ slots = 0) ?_ (16) ⟨0, _, lv_sub hl [0, 2, 1] rfl, by omega, rfl, (tQ.trans tQ.rf hq2 (by decide)), hF, fun i hi => absurd hi (Nat.not_lt_zero _), fun i hi => absurd hi (Nat.not_lt_zero _), rfl, rfl, rfl⟩ hR hS
      intro k ls G H locs cells slots hI hR hS ih28
      obtain ⟨j, V1, hl, hj, rfl, hs, hF, hz1, hv1, rfl, rfl, rfl⟩ := hI
      refine lv_iload_n hx hb dX2_changesWithout_28 rfl (lv_at hl 0 rfl) ?_
      refine lv_bipush (v := (16 : Int32)) hx hb dX2_changesWithout_29 (by decide) ?_
      refine lv_icmp_ge (tgt := 61) hx hb dX2_changesWithout_31 (by decide) (fun c31 => ?_) (fun c31 => ?_)
      · have h9 : j = 16 := eq_of_ge (n := 16) c31 hj (by decide)
        refine lv_aload_n hx hb dX2_changesWithout_61 rfl (lv_at hl 2 rfl) ?_
        refine t_get M hA hR 1 (by decide) q1040 rfl rfl dX2_changesWithout_62 ?_
        refine lv_bipush (v := (12 : Int32)) hx hb dX2_changesWithout_65 (by decide) ?_
        refine lv_bipush (v := (7 : Int32)) hx hb dX2_changesWithout_67 (by decide) ?_
        refine lv_iload_n hx hb dX2_changesWithout_69 rfl (lv_at hl 1 rfl) ?_
        refine lv_imul hx hb dX2_changesWithout_70 ?_
        refine lv_iadd hx hb dX2_changesWithout_71 ?_
        refine lv_bipush (v := (6 : Int32)) hx hb dX2_changesWithout_72 (by decide) ?_
        refine lv_iadd hx hb dX2_changesWithout_74 ?_
        refine lv_iconst (v := (0 : Int32)) hx hb dX2_changesWithout_75 (by decide) ?_
        refine t_astQ M hA hR hS 1 (by decide) (by first | assumption | rfl) (12 + 7 * o9 + 6) (ix_o o9 6) (by show _ < 292; omega) dX2_changesWithout_76 (fun V76 H locs hq76 hw76 hR hS => ?_)
        have hF := hw76
        have hF : V76.2.1 1 = fOff F o9 := hF
        refine lv_iconst (v := (0 : Int32)) hx hb dX2_changesWithout_77 (by decide) ?_
        refine lv_istore_n (lv' := [(2, _), (1, _), (0, _)]) hx hb dX2_changesWithout_78 rfl hl (by decide) rfl (fun ls hl => ?_)
        refine lv_iconst (v := (0 : Int32)) hx hb dX2_changesWithout_79 (by decide) ?_
        refine lv_istore_n (lv' := [(3, _), (2, _), (1, _), (0, _)]) hx hb dX2_changesWithout_80 rfl hl (by decide) rfl (fun ls hl => ?_)
        refine g_loop (pc := 81) (fun (k : Nat) (ls : Array Slot) (G : gG) (cells slots : Nat) => ∃ j V1, lv_has ls 5 [(3, .int (nI j)), (2, .int (nI (fCnt (fun u => fDf F (fVl F N 17 (nI u)) (fVl (fOff F o9) N 17 (nI u))) 0 j))), (1, .int (nI o9)), (0, .ref (A 0))] ∧ j ≤ 16 ∧ k = 16 - j ∧ tQ tX V V1 ∧ V1.2.1 1 = fOff F o9 ∧ (∀ i, i < 16 → V1.2.1 14 i = bI (fVl F N 17 (nI i)).isSome) ∧ (∀ i, i < 16 → (∀ v, fVl F N 17 (nI i) = some v → V1.2.2 i = v) ∧ fVb (V1.2.2 i)) ∧ G = tG K G0 A V1 ∧ cells = 0 ∧ slots = 0) ?_ (16) ⟨0, _, lv_sub hl [0, 1, 2, 3] rfl, by omega, rfl, (tQ.trans (tQ.trans tQ.rf hs (by decide)) hq76 (by decide)), hF, fun i hi => (congrFun (hq76.arr (by decide)) i).trans (hz1 i (by omega)), fun i hi => by rw [hq76.2 (by decide)]; exact hv1 i (by omega), rfl, rfl, rfl⟩ hR hS
        intro k ls G H locs cells slots hI hR hS ih81
        obtain ⟨j, V1, hl, hj, rfl, hs, hF, hz1, hv1, rfl, rfl, rfl⟩ := hI
        refine lv_iload_n hx hb dX2_changesWithout_81 rfl (lv_at hl 0 rfl) ?_
        refine lv_bipush (v := (16 : Int32)) hx hb dX2_changesWithout_82 (by decide) ?_
        refine lv_icmp_ge (tgt := 133) hx hb dX2_changesWithout_84 (by decide) (fun c84 => ?_) (fun c84 => ?_)
        · have h9 : j = 16 := eq_of_ge (n := 16) c84 hj (by decide)
          refine lv_aload_n hx hb dX2_changesWithout_133 rfl (lv_at hl 3 rfl) ?_
          refine t_get M hA hR 1 (by decide) q1040 rfl rfl dX2_changesWithout_134 ?_
          refine lv_bipush (v := (12 : Int32)) hx hb dX2_changesWithout_137 (by decide) ?_
          refine lv_bipush (v := (7 : Int32)) hx hb dX2_changesWithout_139 (by decide) ?_
          refine lv_iload_n hx hb dX2_changesWithout_141 rfl (lv_at hl 2 rfl) ?_
          refine lv_imul hx hb dX2_changesWithout_142 ?_
          refine lv_iadd hx hb dX2_changesWithout_143 ?_
          refine lv_bipush (v := (6 : Int32)) hx hb dX2_changesWithout_144 (by decide) ?_
          refine lv_iadd hx hb dX2_changesWithout_146 ?_
          refine lv_iconst (v := (1 : Int32)) hx hb dX2_changesWithout_147 (by decide) ?_
          refine t_astQ M hA hR hS 1 (by decide) (by first | assumption | rfl) (12 + 7 * o9 + 6) (ix_o o9 6) (by show _ < 292; omega) dX2_changesWithout_148 (fun V148 H locs hq148 hw148 hR hS => ?_)
          have hF := hw148
          have hF : V148.2.1 1 = F := hF.trans (off_on (of_decide_eq_true hh))
          refine lv_iload_n hx hb dX2_changesWithout_149 rfl (lv_at hl 1 rfl) ?_
          exact g_iret M hr hlk hR hS (by omega) (by omega) dX2_changesWithout_150 (⟨by rw [hz, h9], _, rfl, (tQ.trans (tQ.trans tQ.rf hs (by decide)) hq148 (by decide)), hF⟩)
        · have hj2 : j < 16 := lt_of_not (n := 16) c84 (by omega)
          obtain ⟨hv2, hb2⟩ := hv1 j hj2
          refine lv_aload_n hx hb dX2_changesWithout_87 rfl (lv_at hl 3 rfl) ?_
          refine lv_iload_n hx hb dX2_changesWithout_88 rfl (lv_at hl 0 rfl) ?_
          refine g_kf (g_V (As := [_]) M hR hS (c_X2_valueBy l K hA (by first | assumption | rfl) (nI j) ok2) (lw_V q1266 q1268 qs43 q73 q1269) 1 md_X2_valueBy rfl ⟨rfl, rfl⟩ ⟨Nat.le_of_ble_eq_true rfl, Nat.le_of_ble_eq_true rfl⟩ (hR.recv M (tG_0 hA) rfl) rfl hl.1 rfl (lv_room (Nat.le_of_ble_eq_true rfl)) dX2_changesWithout_89 ⟨(by first | exact Nat.le_refl _ | exact Nat.zero_le _ | (dsimp only; omega)), (by first | exact Nat.le_refl _ | exact Nat.zero_le _ | (dsimp only; omega))⟩) hS (fun r89 G89 H locs hp89 hR hS => ?_)
          obtain ⟨V89, rfl, hs89, hh89, hv89, hb89⟩ := hp89
          have hF := hs89.row hF (by decide)
          refine lv_fstore (lv' := [(4, _), (3, _), (2, _), (1, _), (0, _)]) hx hb dX2_changesWithout_92 hl (by decide) rfl (fun ls hl => ?_)
          refine lv_iload_n hx hb dX2_changesWithout_94 rfl (lv_at hl 2 rfl) ?_
          refine lv_aload_n hx hb dX2_changesWithout_95 rfl (lv_at hl 4 rfl) ?_
          refine lv_aload_n hx hb dX2_changesWithout_96 rfl (lv_at hl 4 rfl) ?_
          refine t_get M hA hR 14 (by decide) q1053 rfl rfl dX2_changesWithout_97 ?_
          refine lv_iload_n hx hb dX2_changesWithout_100 rfl (lv_at hl 1 rfl) ?_
          refine t_zldE M hA ((congrFun (hs89.arr (by decide)) j).trans (hz1 j hj2)) hR rfl hj2 dX2_changesWithout_101 ?_
          refine lv_aload_n hx hb dX2_changesWithout_102 rfl (lv_at hl 4 rfl) ?_
          refine t_get M hA hR 15 (by decide) q1054 rfl rfl dX2_changesWithout_103 ?_
          refine lv_iload_n hx hb dX2_changesWithout_106 rfl (lv_at hl 1 rfl) ?_
          refine t_fldE M hA (congrFun (hs89.2 (by decide)) j) hR rfl hj2 dX2_changesWithout_107 ?_
          refine lv_aload_n hx hb dX2_changesWithout_108 rfl (lv_at hl 4 rfl) ?_
          refine t_getE M hA hR 10 (by decide) (hh89) q1049 rfl dX2_changesWithout_109 ?_
          refine lv_fload hx hb dX2_changesWithout_112 (lv_at hl 0 rfl) ?_
          refine g_ki (g_V (As := [_, _, _, _]) M hR hS (c_X2_differ l K hA (by first | assumption | rfl) (fVl F N 17 (nI j)) (fVl (fOff F o9) N 17 (nI j)) (V1.2.2 j) _ hv2 hv89 hb2 hb89 ok2) (lw_V q1312 q1314 qs52 q73 q1315) 4 md_X2_differ rfl ⟨rfl, rfl⟩ ⟨Nat.le_of_ble_eq_true rfl, Nat.le_of_ble_eq_true rfl⟩ (hR.recv M (tG_0 hA) rfl) rfl hl.1 rfl (lv_room (Nat.le_of_ble_eq_true rfl)) dX2_changesWithout_114 ⟨(by first | exact Nat.le_refl _ | exact Nat.zero_le _ | (dsimp only; omega)), (by first | exact Nat.le_refl _ | exact Nat.zero_le _ | (dsimp only; omega))⟩) hS (fun r114 G114 H locs hp114 hR hS => ?_)
          obtain ⟨rfl, rfl⟩ := hp114
          have hdf : fDf (fOff F o9) (fVl F N 17 (nI j)) (fVl (fOff F o9) N 17 (nI j)) = (fun u => fDf F (fVl F N 17 (nI u)) (fVl (fOff F o9) N 17 (nI u))) j := df_tol (up_lo (by omega))
          refine g_topi (bI ((fun u => fDf F (fVl F N 17 (nI u)) (fVl (fOff F o9) N 17 (nI u))) j)) (by rw [hdf]) ?_
          refine lv_if_eq (tgt := 124) hx hb dX2_changesWithout_117 (by decide) (fun c117 => ?_) (fun c117 => ?_)
          · refine lv_iconst (v := (0 : Int32)) hx hb dX2_changesWithout_124 (by decide) ?_
            refine lv_iadd hx hb dX2_changesWithout_125 ?_
            refine g_topi (nI (fCnt (fun u => fDf F (fVl F N 17 (nI u)) (fVl (fOff F o9) N 17 (nI u))) 0 (j + 1))) (by have h := @cnt_s (fun u => fDf F (fVl F N 17 (nI u)) (fVl (fOff F o9) N 17 (nI u))) j; rw [c117] at h; exact h) ?_
            refine lv_istore_n (lv' := [(2, _), (4, _), (3, _), (1, _), (0, _)]) hx hb dX2_changesWithout_126 rfl hl (by decide) rfl (fun ls hl => ?_)
            refine g_inc (lv' := [(3, _), (2, _), (4, _), (1, _), (0, _)]) M dX2_changesWithout_127 hl (k := 2) rfl (by decide) rfl (fun ls hl => ?_)
            refine lv_goto (tgt := 81) hx hb dX2_changesWithout_130 (by decide) ?_
            exact ih81 (16 - (j + 1)) _ _ _ _ _ _ (by omega) ⟨j + 1, _, lv_sub hl [0, 1, 3, 4] rfl, by omega, rfl, (tQ.trans (tQ.trans tQ.rf hs (by decide)) hs89 (by decide)), hF, fun i hi => (congrFun (hs89.arr (by decide)) i).trans (hz1 i hi), fun i hi => by rw [hs89.2 (by decide)]; exact hv1 i hi, rfl, rfl, rfl⟩ hR hS
          · refine lv_iconst (v := (1 : Int32)) hx hb dX2_changesWithout_120 (by decide) ?_
            refine lv_goto (tgt := 125) hx hb dX2_changesWithout_121 (by decide) ?_
            refine lv_iadd hx hb dX2_changesWithout_125 ?_
            refine g_topi (nI (fCnt (fun u => fDf F (fVl F N 17 (nI u)) (fVl (fOff F o9) N 17 (nI u))) 0 (j + 1))) (by have h := @cnt_s (fun u => fDf F (fVl F N 17 (nI u)) (fVl (fOff F o9) N 17 (nI u))) j; rw [show bI ((fun u => fDf F (fVl F N 17 (nI u)) (fVl (fOff F o9) N 17 (nI u))) j) = 1 from bI_1.mpr (bI_n0.mp c117)] at h; exact h) ?_
            refine lv_istore_n (lv' := [(2, _), (4, _), (3, _), (1, _), (0, _)]) hx hb dX2_changesWithout_126 rfl hl (by decide) rfl (fun ls hl => ?_)
            refine g_inc (lv' := [(3, _), (2, _), (4, _), (1, _), (0, _)]) M dX2_changesWithout_127 hl (k := 2) rfl (by decide) rfl (fun ls hl => ?_)
            refine lv_goto (tgt := 81) hx hb dX2_changesWithout_130 (by decide) ?_
            exact ih81 (16 - (j + 1)) _ _ _ _ _ _ (by omega) ⟨j + 1, _, lv_sub hl [0, 1, 3, 4] rfl, by omega, rfl, (tQ.trans (tQ.trans tQ.rf hs (by decide)) hs89 (by decide)), hF, fun i hi => (congrFun (hs89.arr (by decide)) i).trans (hz1 i hi), fun i hi => by rw [hs89.2 (by decide)]; exact hv1 i hi, rfl, rfl, rfl⟩ hR hS
      · have hj2 : j < 16 := lt_of_not (n := 16) c31 (by omega)
        refine lv_aload_n hx hb dX2_changesWithout_34 rfl (lv_at hl 2 rfl) ?_
        refine t_get M hA hR 15 (by decide) q1054 rfl rfl dX2_changesWithout_35 ?_
        refine lv_iload_n hx hb dX2_changesWithout_38 rfl (lv_at hl 0 rfl) ?_
        refine lv_aload_n hx hb dX2_changesWithout_39 rfl (lv_at hl 2 rfl) ?_
        refine lv_iload_n hx hb dX2_changesWithout_40 rfl (lv_at hl 0 rfl) ?_
        refine g_kf (g_V (As := [_]) M hR hS (c_X2_valueBy l K hA (by first | assumption | rfl) (nI j) ok) (lw_V q1266 q1268 qs43 q73 q1269) 1 md_X2_valueBy rfl ⟨rfl, rfl⟩ ⟨Nat.le_of_ble_eq_true rfl, Nat.le_of_ble_eq_true rfl⟩ (hR.recv M (tG_0 hA) rfl) rfl hl.1 rfl (lv_room (Nat.le_of_ble_eq_true rfl)) dX2_changesWithout_41 ⟨(by first | exact Nat.le_refl _ | exact Nat.zero_le _ | (dsimp only; omega)), (by first | exact Nat.le_refl _ | exact Nat.zero_le _ | (dsimp only; omega))⟩) hS (fun r41 G41 H locs hp41 hR hS => ?_)
        obtain ⟨V41, rfl, hs41, hh41, hv41, hb41⟩ := hp41
        have hF := hs41.row hF (by decide)
        refine t_fstQ M hA hR hS j rfl hj2 dX2_changesWithout_44 (fun V44 H locs hq44 hw44 hz44 hR hS => ?_)
        have hF := hq44.row hF (by decide)
        refine lv_aload_n hx hb dX2_changesWithout_45 rfl (lv_at hl 2 rfl) ?_
        refine t_get M hA hR 14 (by decide) q1053 rfl rfl dX2_changesWithout_46 ?_
        refine lv_iload_n hx hb dX2_changesWithout_49 rfl (lv_at hl 0 rfl) ?_
        refine lv_aload_n hx hb dX2_changesWithout_50 rfl (lv_at hl 2 rfl) ?_
        refine t_getE M hA hR 10 (by decide) ((hq44.fld (by decide)).trans hh41) q1049 rfl dX2_changesWithout_51 ?_
        refine t_zstQ M hA hR hS j rfl hj2 dX2_changesWithout_54 (fun V54 H locs hq54 hw54 hz54 hR hS => ?_)
        have hF := hq54.row hF (by decide)
        refine g_inc (lv' := [(2, _), (1, _), (0, _)]) M dX2_changesWithout_55 hl (k := 0) rfl (by decide) rfl (fun ls hl => ?_)
        refine lv_goto (tgt := 28) hx hb dX2_changesWithout_58 (by decide) ?_
        exact ih28 (16 - (j + 1)) _ _ _ _ _ _ (by omega) ⟨j + 1, _, lv_sub hl [0, 1, 2] rfl, by omega, rfl, (tQ.trans (tQ.trans (tQ.trans (tQ.trans tQ.rf hs (by decide)) hs41 (by decide)) hq44 (by decide)) hq54 (by decide)), hF, fun i hi => (congrFun hw54 i).trans (wy_s (q := fun i => bI (fVl F N 17 (nI i)).isSome) (fun i hi => (congrFun ((hq44.arr (by decide)).trans (hs41.arr (by decide))) i).trans (hz1 i hi)) rfl i hi), fun i hi => by rw [hz54, hw44]; exact had_s (q := fun i y => (∀ v, fVl F N 17 (nI i) = some v → y = v) ∧ fVb y) (by rw [hs41.2 (by decide)]; exact hv1) ⟨hv41, hb41⟩ i hi, rfl, rfl, rfl⟩ hR hS
    · have hz : zChg F N (nI o9) = -5 := (if_neg ho2).trans (if_pos (by rw [hzo]; exact bI_0.mp c20))
      refine lv_bipush (v := ((-5) : Int32)) hx hb dX2_changesWithout_23 (by decide) ?_
      exact g_iret M hr hlk hR hS (by omega) (by omega) dX2_changesWithout_25 (⟨hz.symm, _, rfl, (tQ.trans tQ.rf hq2 (by decide)), hF⟩)
  · have hz : zChg F N o = -1 := if_pos (bI_0.mp c10)
    refine lv_iconst (v := ((-1) : Int32)) hx hb dX2_changesWithout_13 (by decide) ?_
    exact g_iret M hr hlk hR hS (by omega) (by omega) dX2_changesWithout_14 (⟨hz.symm, _, rfl, (tQ.trans tQ.rf hq2 (by decide)), hF⟩)
