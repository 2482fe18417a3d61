/-! THE REFERENCE, its readers of the row (rows printed by tools/p20.py) -/
theorem md_X2_in : gMd yX2_in 3 := by
  unfold gMd
  decide +kernel
set_option maxHeartbeats 4000000 in
set_option maxRecDepth 100000 in
theorem c_X2_in (l : Launch) (K : gK) {G : gG} (v a b : Int32) : Met l yX2_in (ws_ yX2_in cX2_in 3 (Option.some Jvm.ClassFile.FieldType.boolean)) (gRm 0 0 0 0) (gPre K [.int v, .int a, .int b] G) (gQi K (fun r G1 => r = bI (fIn v a b) ∧ G1 = G)) 0 0 (gA K) := by
  refine g_met (by decide) (Nat.le_of_ble_eq_true rfl) ?_
  intro p e s m below meth c M hr hlk hnm hR ls hl
  have M : gM K p s m _ c cX2_in 3 RX2 := M
  have hx := M.hx
  have hb := M.hb
  have hS : va_S (gA K) s.heap s.heap [] := va_S.rf
  have hl : lv_has ls 3 [(0, .int v), (1, .int a), (2, .int b)] := hl
  refine lv_iload_n hx hb dX2_in_0 rfl (lv_at hl 0 rfl) ?_
  refine lv_iload_n hx hb dX2_in_1 rfl (lv_at hl 1 rfl) ?_
  refine lv_icmp_lt (tgt := 14) hx hb dX2_in_2 (by decide) (fun c2 => ?_) (fun c2 => ?_)
  · have e : fIn v a b = false := by unfold fIn; rw [Bool.and_eq_false_iff]; first | exact Or.inl (decide_eq_false (by simpa using c2)) | exact Or.inr (decide_eq_false (by simpa using c7))
    refine lv_iconst (v := (0 : Int32)) hx hb dX2_in_14 (by decide) ?_
    exact g_zret M hr hlk (by first | rfl | exact bI_nar _) hR hS (by omega) (by omega) dX2_in_15 (⟨by rw [e]; rfl, rfl⟩)
  · refine lv_iload_n hx hb dX2_in_5 rfl (lv_at hl 0 rfl) ?_
    refine lv_iload_n hx hb dX2_in_6 rfl (lv_at hl 2 rfl) ?_
    refine lv_icmp_gt (tgt := 14) hx hb dX2_in_7 (by decide) (fun c7 => ?_) (fun c7 => ?_)
    · have e : fIn v a b = false := by unfold fIn; rw [Bool.and_eq_false_iff]; first | exact Or.inl (decide_eq_false (by simpa using c2)) | exact Or.inr (decide_eq_false (by simpa using c7))
      refine lv_iconst (v := (0 : Int32)) hx hb dX2_in_14 (by decide) ?_
      exact g_zret M hr hlk (by first | rfl | exact bI_nar _) hR hS (by omega) (by omega) dX2_in_15 (⟨by rw [e]; rfl, rfl⟩)
    · have e : fIn v a b = true := by unfold fIn; rw [Bool.and_eq_true]; exact ⟨decide_eq_true (Int32.not_lt.mp c2), decide_eq_true (Int32.not_lt.mp c7)⟩
      refine lv_iconst (v := (1 : Int32)) hx hb dX2_in_10 (by decide) ?_
      refine lv_goto (tgt := 15) hx hb dX2_in_11 (by decide) ?_
      exact g_zret M hr hlk (by first | rfl | exact bI_nar _) hR hS (by omega) (by omega) dX2_in_15 (⟨by rw [e]; rfl, rfl⟩)

theorem md_X2_of : gMd yX2_of 2 := by
  unfold gMd
  decide +kernel
set_option maxHeartbeats 4000000 in
set_option maxRecDepth 100000 in
theorem c_X2_of (l : Launch) (K : gK) {G0 : gG} {A : Nat → Nat} {V : tV} {F : Nat → Int32} (hA : tInj A) (hF : V.2.1 1 = F) (o k : Nat) (h : 12 + 7 * o + k < 292) : Met l yX2_of (ws_ yX2_of cX2_of 3 (Option.some Jvm.ClassFile.FieldType.int)) (gRm 0 0 0 0) (gPre K [.ref (A 0), .int (nI o), .int (nI k)] (tG K G0 A V)) (gQi K (fun r G1 => r = fo F o k ∧ G1 = tG K G0 A V)) 0 0 (gA K) := by
  refine g_met (by decide) (Nat.le_of_ble_eq_true rfl) ?_
  intro p e s m below meth c M hr hlk hnm hR ls hl
  have M : gM K p s m _ c cX2_of 3 RX2 := M
  have hx := M.hx
  have hb := M.hb
  have hS : va_S (gA K) s.heap s.heap [] := va_S.rf
  have hl : lv_has ls 3 [(0, .ref (A 0)), (1, .int (nI o)), (2, .int (nI k))] := hl
  have hF0 := hF
  refine lv_aload_n hx hb dX2_of_0 rfl (lv_at hl 0 rfl) ?_
  refine t_get M hA hR 1 (by decide) q1040 rfl rfl dX2_of_1 ?_
  refine lv_bipush (v := (12 : Int32)) hx hb dX2_of_4 (by decide) ?_
  refine lv_bipush (v := (7 : Int32)) hx hb dX2_of_6 (by decide) ?_
  refine lv_iload_n hx hb dX2_of_8 rfl (lv_at hl 1 rfl) ?_
  refine lv_imul hx hb dX2_of_9 ?_
  refine lv_iadd hx hb dX2_of_10 ?_
  refine lv_iload_n hx hb dX2_of_11 rfl (lv_at hl 2 rfl) ?_
  refine lv_iadd hx hb dX2_of_12 ?_
  refine t_aldF M hA (by first | assumption | rfl) hR (by decide) (12 + 7 * o + k) (ix_o o k) h dX2_of_13 ?_
  exact g_iret M hr hlk hR hS (by omega) (by omega) dX2_of_14 (⟨rfl, rfl⟩)

theorem md_X2_amountAt : gMd yX2_amountAt 1 := by
  unfold gMd
  decide +kernel
set_option maxHeartbeats 4000000 in
set_option maxRecDepth 100000 in
theorem c_X2_amountAt (l : Launch) (K : gK) {G0 : gG} {A : Nat → Nat} {V : tV} {F : Nat → Int32} (hA : tInj A) (hF : V.2.1 1 = F) (k : Nat) (h : k < 292) (hv : fRe (F k) = true) : Met l yX2_amountAt (ws_ yX2_amountAt cX2_amountAt 2 (Option.some Jvm.ClassFile.FieldType.float)) (gRm 1 0 0 60) (gPre K [.ref (A 0), .int (nI k)] (tG K G0 A V)) (gQf K (fun r G1 => r = (F k).toUInt32 ∧ G1 = tG K G0 A V)) 0 0 (gA K) := by
  refine g_met (by decide) (Nat.le_of_ble_eq_true rfl) ?_
  intro p e s m below meth c M hr hlk hnm hR ls hl
  have M : gM K p s m _ c cX2_amountAt 2 RX2 := M
  have hx := M.hx
  have hb := M.hb
  have hS : va_S (gA K) s.heap s.heap [] := va_S.rf
  have hl : lv_has ls 2 [(0, .ref (A 0)), (1, .int (nI k))] := hl
  have hF0 := hF
  refine lv_aload_n hx hb dX2_amountAt_0 rfl (lv_at hl 0 rfl) ?_
  refine t_get M hA hR 1 (by decide) q1040 rfl rfl dX2_amountAt_1 ?_
  refine lv_iload_n hx hb dX2_amountAt_4 rfl (lv_at hl 1 rfl) ?_
  refine t_aldF M hA (by first | assumption | rfl) hR (by decide) k rfl h dX2_amountAt_5 ?_
  refine g_i2f M hl.1 q1123 q428 q427 q78 (sn_ok hv) dX2_amountAt_6 (Nat.le_of_ble_eq_true rfl) (Nat.le_of_ble_eq_true rfl) ?_
  exact g_fret M hr hlk hR hS (by omega) (by omega) dX2_amountAt_9 (⟨rfl, rfl⟩)

theorem md_X2_realOf : gMd yX2_realOf 2 := by
  unfold gMd
  decide +kernel
set_option maxHeartbeats 4000000 in
set_option maxRecDepth 100000 in
theorem c_X2_realOf (l : Launch) (K : gK) {G0 : gG} {A : Nat → Nat} {V : tV} {F : Nat → Int32} (hA : tInj A) (hF : V.2.1 1 = F) (o k : Nat) (h : 12 + 7 * o + k < 292) (hv : fRe (fo F o k) = true) : Met l yX2_realOf (ws_ yX2_realOf cX2_realOf 3 (Option.some Jvm.ClassFile.FieldType.float)) (gRm 1 0 0 60) (gPre K [.ref (A 0), .int (nI o), .int (nI k)] (tG K G0 A V)) (gQf K (fun r G1 => r = (fo F o k).toUInt32 ∧ G1 = tG K G0 A V)) 0 0 (gA K) := by
  refine g_met (by decide) (Nat.le_of_ble_eq_true rfl) ?_
  intro p e s m below meth c M hr hlk hnm hR ls hl
  have M : gM K p s m _ c cX2_realOf 3 RX2 := M
  have hx := M.hx
  have hb := M.hb
  have hS : va_S (gA K) s.heap s.heap [] := va_S.rf
  have hl : lv_has ls 3 [(0, .ref (A 0)), (1, .int (nI o)), (2, .int (nI k))] := hl
  have hF0 := hF
  refine lv_aload_n hx hb dX2_realOf_0 rfl (lv_at hl 0 rfl) ?_
  refine lv_iload_n hx hb dX2_realOf_1 rfl (lv_at hl 1 rfl) ?_
  refine lv_iload_n hx hb dX2_realOf_2 rfl (lv_at hl 2 rfl) ?_
  refine g_ki (g_V (As := [_, _]) M hR hS (c_X2_of l K hA (by first | assumption | rfl) _ _ (by omega)) (lw_V q1153 q1155 qs27 q73 q1156) 2 md_X2_of rfl ⟨rfl, rfl⟩ ⟨Nat.le_of_ble_eq_true rfl, Nat.le_of_ble_eq_true rfl⟩ (hR.recv M (tG_0 hA) rfl) rfl hl.1 rfl (lv_room (Nat.le_of_ble_eq_true rfl)) dX2_realOf_3 ⟨(by first | exact Nat.le_refl _ | exact Nat.zero_le _ | (dsimp only; omega)), (by first | exact Nat.le_refl _ | exact Nat.zero_le _ | (dsimp only; omega))⟩) hS (fun r3 G3 H locs hp3 hR hS => ?_)
  obtain ⟨rfl, rfl⟩ := hp3
  refine g_i2f M hl.1 q1123 q428 q427 q78 (sn_ok hv) dX2_realOf_6 (Nat.le_of_ble_eq_true rfl) (Nat.le_of_ble_eq_true rfl) ?_
  exact g_fret M hr hlk hR hS (by omega) (by omega) dX2_realOf_9 (⟨rfl, rfl⟩)

theorem md_X2_isWord : gMd yX2_isWord 1 := by
  unfold gMd
  decide +kernel
set_option maxHeartbeats 4000000 in
set_option maxRecDepth 100000 in
theorem c_X2_isWord (l : Launch) (K : gK) {G : gG} (w : Int32) : Met l yX2_isWord (ws_ yX2_isWord cX2_isWord 1 (Option.some Jvm.ClassFile.FieldType.boolean)) (gRm 1 0 0 22) (gPre K [.int w] G) (gQi K (fun r G1 => r = bI (fIn w 0 15) ∧ G1 = G)) 0 0 (gA K) := by
  refine g_met (by decide) (Nat.le_of_ble_eq_true rfl) ?_
  intro p e s m below meth c M hr hlk hnm hR ls hl
  have M : gM K p s m _ c cX2_isWord 1 RX2 := M
  have hx := M.hx
  have hb := M.hb
  have hS : va_S (gA K) s.heap s.heap [] := va_S.rf
  have hl : lv_has ls 1 [(0, .int w)] := hl
  refine lv_iload_n hx hb dX2_isWord_0 rfl (lv_at hl 0 rfl) ?_
  refine lv_iconst (v := (0 : Int32)) hx hb dX2_isWord_1 (by decide) ?_
  refine lv_bipush (v := (15 : Int32)) hx hb dX2_isWord_2 (by decide) ?_
  refine g_ki (g_S (As := [_, _, _]) M hR hS (c_X2_in l K _ _ _) (lw_S q1098 q1099 q73 q1100) 3 md_X2_in ⟨rfl, rfl⟩ ⟨Nat.le_of_ble_eq_true rfl, Nat.le_of_ble_eq_true rfl⟩ rfl hl.1 rfl (lv_room (Nat.le_of_ble_eq_true rfl)) dX2_isWord_4 ⟨(by first | exact Nat.le_refl _ | exact Nat.zero_le _ | (dsimp only; omega)), (by first | exact Nat.le_refl _ | exact Nat.zero_le _ | (dsimp only; omega))⟩) hS (fun r4 G4 H locs hp4 hR hS => ?_)
  obtain ⟨rfl, e0⟩ := hp4
  rw [e0] at hR
  exact g_zret M hr hlk (by first | rfl | exact bI_nar _) hR hS (by omega) (by omega) dX2_isWord_7 (⟨rfl, rfl⟩)

theorem md_X2_isPerson : gMd yX2_isPerson 1 := by
  unfold gMd
  decide +kernel
set_option maxHeartbeats 4000000 in
set_option maxRecDepth 100000 in
theorem c_X2_isPerson (l : Launch) (K : gK) {G0 : gG} {A : Nat → Nat} {V : tV} {F : Nat → Int32} (hA : tInj A) (hF : V.2.1 1 = F) (v : Int32) : Met l yX2_isPerson (ws_ yX2_isPerson cX2_isPerson 2 (Option.some Jvm.ClassFile.FieldType.boolean)) (gRm 1 0 0 22) (gPre K [.ref (A 0), .int v] (tG K G0 A V)) (gQi K (fun r G1 => r = bI (fIn v 0 (F 0 - 1)) ∧ G1 = tG K G0 A V)) 0 0 (gA K) := by
  refine g_met (by decide) (Nat.le_of_ble_eq_true rfl) ?_
  intro p e s m below meth c M hr hlk hnm hR ls hl
  have M : gM K p s m _ c cX2_isPerson 2 RX2 := M
  have hx := M.hx
  have hb := M.hb
  have hS : va_S (gA K) s.heap s.heap [] := va_S.rf
  have hl : lv_has ls 2 [(0, .ref (A 0)), (1, .int v)] := hl
  have hF0 := hF
  refine lv_iload_n hx hb dX2_isPerson_0 rfl (lv_at hl 1 rfl) ?_
  refine lv_iconst (v := (0 : Int32)) hx hb dX2_isPerson_1 (by decide) ?_
  refine lv_aload_n hx hb dX2_isPerson_2 rfl (lv_at hl 0 rfl) ?_
  refine t_get M hA hR 1 (by decide) q1040 rfl rfl dX2_isPerson_3 ?_
  refine lv_iconst (v := (0 : Int32)) hx hb dX2_isPerson_6 (by decide) ?_
  refine t_aldF M hA (by first | assumption | rfl) hR (by decide) 0 rfl (by decide) dX2_isPerson_7 ?_
  refine lv_iconst (v := (1 : Int32)) hx hb dX2_isPerson_8 (by decide) ?_
  refine lv_isub hx hb dX2_isPerson_9 ?_
  refine g_ki (g_S (As := [_, _, _]) M hR hS (c_X2_in l K _ _ _) (lw_S q1098 q1099 q73 q1100) 3 md_X2_in ⟨rfl, rfl⟩ ⟨Nat.le_of_ble_eq_true rfl, Nat.le_of_ble_eq_true rfl⟩ rfl hl.1 rfl (lv_room (Nat.le_of_ble_eq_true rfl)) dX2_isPerson_10 ⟨(by first | exact Nat.le_refl _ | exact Nat.zero_le _ | (dsimp only; omega)), (by first | exact Nat.le_refl _ | exact Nat.zero_le _ | (dsimp only; omega))⟩) hS (fun r10 G10 H locs hp10 hR hS => ?_)
  obtain ⟨rfl, e0⟩ := hp10
  rw [e0] at hR
  exact g_zret M hr hlk (by first | rfl | exact bI_nar _) hR hS (by omega) (by omega) dX2_isPerson_13 (⟨rfl, rfl⟩)

theorem md_X2_isOrder : gMd yX2_isOrder 1 := by
  unfold gMd
  decide +kernel
set_option maxHeartbeats 4000000 in
set_option maxRecDepth 100000 in
theorem c_X2_isOrder (l : Launch) (K : gK) {G0 : gG} {A : Nat → Nat} {V : tV} {F : Nat → Int32} (hA : tInj A) (hF : V.2.1 1 = F) (v : Int32) : Met l yX2_isOrder (ws_ yX2_isOrder cX2_isOrder 2 (Option.some Jvm.ClassFile.FieldType.boolean)) (gRm 1 0 0 22) (gPre K [.ref (A 0), .int v] (tG K G0 A V)) (gQi K (fun r G1 => r = bI (fIn v 0 (F 1 - 1)) ∧ G1 = tG K G0 A V)) 0 0 (gA K) := by
  refine g_met (by decide) (Nat.le_of_ble_eq_true rfl) ?_
  intro p e s m below meth c M hr hlk hnm hR ls hl
  have M : gM K p s m _ c cX2_isOrder 2 RX2 := M
  have hx := M.hx
  have hb := M.hb
  have hS : va_S (gA K) s.heap s.heap [] := va_S.rf
  have hl : lv_has ls 2 [(0, .ref (A 0)), (1, .int v)] := hl
  have hF0 := hF
  refine lv_iload_n hx hb dX2_isOrder_0 rfl (lv_at hl 1 rfl) ?_
  refine lv_iconst (v := (0 : Int32)) hx hb dX2_isOrder_1 (by decide) ?_
  refine lv_aload_n hx hb dX2_isOrder_2 rfl (lv_at hl 0 rfl) ?_
  refine t_get M hA hR 1 (by decide) q1040 rfl rfl dX2_isOrder_3 ?_
  refine lv_iconst (v := (1 : Int32)) hx hb dX2_isOrder_6 (by decide) ?_
  refine t_aldF M hA (by first | assumption | rfl) hR (by decide) 1 rfl (by decide) dX2_isOrder_7 ?_
  refine lv_iconst (v := (1 : Int32)) hx hb dX2_isOrder_8 (by decide) ?_
  refine lv_isub hx hb dX2_isOrder_9 ?_
  refine g_ki (g_S (As := [_, _, _]) M hR hS (c_X2_in l K _ _ _) (lw_S q1098 q1099 q73 q1100) 3 md_X2_in ⟨rfl, rfl⟩ ⟨Nat.le_of_ble_eq_true rfl, Nat.le_of_ble_eq_true rfl⟩ rfl hl.1 rfl (lv_room (Nat.le_of_ble_eq_true rfl)) dX2_isOrder_10 ⟨(by first | exact Nat.le_refl _ | exact Nat.zero_le _ | (dsimp only; omega)), (by first | exact Nat.le_refl _ | exact Nat.zero_le _ | (dsimp only; omega))⟩) hS (fun r10 G10 H locs hp10 hR hS => ?_)
  obtain ⟨rfl, e0⟩ := hp10
  rw [e0] at hR
  exact g_zret M hr hlk (by first | rfl | exact bI_nar _) hR hS (by omega) (by omega) dX2_isOrder_13 (⟨rfl, rfl⟩)

theorem md_X2_hangs : gMd yX2_hangs 1 := by
  unfold gMd
  decide +kernel
set_option maxHeartbeats 4000000 in
set_option maxRecDepth 100000 in
theorem c_X2_hangs (l : Launch) (K : gK) {G0 : gG} {A : Nat → Nat} {V : tV} {F : Nat → Int32} (hA : tInj A) (hF : V.2.1 1 = F) (o : Nat) (h : o < 40) : Met l yX2_hangs (ws_ yX2_hangs cX2_hangs 2 (Option.some Jvm.ClassFile.FieldType.boolean)) (gRm 1 0 0 22) (gPre K [.ref (A 0), .int (nI o)] (tG K G0 A V)) (gQi K (fun r G1 => r = bI (fHg F o) ∧ G1 = tG K G0 A V)) 0 0 (gA K) := by
  refine g_met (by decide) (Nat.le_of_ble_eq_true rfl) ?_
  intro p e s m below meth c M hr hlk hnm hR ls hl
  have M : gM K p s m _ c cX2_hangs 2 RX2 := M
  have hx := M.hx
  have hb := M.hb
  have hS : va_S (gA K) s.heap s.heap [] := va_S.rf
  have hl : lv_has ls 2 [(0, .ref (A 0)), (1, .int (nI o))] := hl
  have hF0 := hF
  refine lv_aload_n hx hb dX2_hangs_0 rfl (lv_at hl 0 rfl) ?_
  refine lv_iload_n hx hb dX2_hangs_1 rfl (lv_at hl 1 rfl) ?_
  refine lv_bipush (v := (6 : Int32)) hx hb dX2_hangs_2 (by decide) ?_
  refine g_ki (g_V (As := [_, _]) M hR hS (c_X2_of l K hA (by first | assumption | rfl) o 6 (by omega)) (lw_V q1153 q1155 qs27 q73 q1156) 2 md_X2_of rfl ⟨rfl, rfl⟩ ⟨Nat.le_of_ble_eq_true rfl, Nat.le_of_ble_eq_true rfl⟩ (hR.recv M (tG_0 hA) rfl) rfl hl.1 rfl (lv_room (Nat.le_of_ble_eq_true rfl)) dX2_hangs_4 ⟨(by first | exact Nat.le_refl _ | exact Nat.zero_le _ | (dsimp only; omega)), (by first | exact Nat.le_refl _ | exact Nat.zero_le _ | (dsimp only; omega))⟩) hS (fun r4 G4 H locs hp4 hR hS => ?_)
  obtain ⟨rfl, rfl⟩ := hp4
  refine lv_iconst (v := (1 : Int32)) hx hb dX2_hangs_7 (by decide) ?_
  refine lv_icmp_ne (tgt := 15) hx hb dX2_hangs_8 (by decide) (fun c8 => ?_) (fun c8 => ?_)
  · refine lv_iconst (v := (0 : Int32)) hx hb dX2_hangs_15 (by decide) ?_
    exact g_zret M hr hlk (by first | rfl | exact bI_nar _) hR hS (by omega) (by omega) dX2_hangs_16 (⟨by unfold fHg; simp [bI, c8], rfl⟩)
  · refine lv_iconst (v := (1 : Int32)) hx hb dX2_hangs_11 (by decide) ?_
    refine lv_goto (tgt := 16) hx hb dX2_hangs_12 (by decide) ?_
    exact g_zret M hr hlk (by first | rfl | exact bI_nar _) hR hS (by omega) (by omega) dX2_hangs_16 (⟨by unfold fHg; simp [bI, c8], rfl⟩)

theorem md_X2_hangsFor : gMd yX2_hangsFor 2 := by
  unfold gMd
  decide +kernel
set_option maxHeartbeats 4000000 in
set_option maxRecDepth 100000 in
theorem c_X2_hangsFor (l : Launch) (K : gK) {G0 : gG} {A : Nat → Nat} {V : tV} {F : Nat → Int32} (hA : tInj A) (hF : V.2.1 1 = F) (o : Nat) (w : Int32) (h : o < 40) : Met l yX2_hangsFor (ws_ yX2_hangsFor cX2_hangsFor 3 (Option.some Jvm.ClassFile.FieldType.boolean)) (gRm 2 0 0 43) (gPre K [.ref (A 0), .int (nI o), .int w] (tG K G0 A V)) (gQi K (fun r G1 => r = bI (fHf F w o) ∧ G1 = tG K G0 A V)) 0 0 (gA K) := by
  refine g_met (by decide) (Nat.le_of_ble_eq_true rfl) ?_
  intro p e s m below meth c M hr hlk hnm hR ls hl
  have M : gM K p s m _ c cX2_hangsFor 3 RX2 := M
  have hx := M.hx
  have hb := M.hb
  have hS : va_S (gA K) s.heap s.heap [] := va_S.rf
  have hl : lv_has ls 3 [(0, .ref (A 0)), (1, .int (nI o)), (2, .int w)] := hl
  have hF0 := hF
  refine lv_aload_n hx hb dX2_hangsFor_0 rfl (lv_at hl 0 rfl) ?_
  refine lv_iload_n hx hb dX2_hangsFor_1 rfl (lv_at hl 1 rfl) ?_
  refine g_ki (g_V (As := [_]) M hR hS (c_X2_hangs l K hA (by first | assumption | rfl) o h) (lw_V q1169 q1171 qs29 q73 q1172) 1 md_X2_hangs rfl ⟨rfl, rfl⟩ ⟨Nat.le_of_ble_eq_true rfl, Nat.le_of_ble_eq_true rfl⟩ (hR.recv M (tG_0 hA) rfl) rfl hl.1 rfl (lv_room (Nat.le_of_ble_eq_true rfl)) dX2_hangsFor_2 ⟨(by first | exact Nat.le_refl _ | exact Nat.zero_le _ | (dsimp only; omega)), (by first | exact Nat.le_refl _ | exact Nat.zero_le _ | (dsimp only; omega))⟩) hS (fun r2 G2 H locs hp2 hR hS => ?_)
  obtain ⟨rfl, rfl⟩ := hp2
  refine lv_if_eq (tgt := 22) hx hb dX2_hangsFor_5 (by decide) (fun c5 => ?_) (fun c5 => ?_)
  · refine lv_iconst (v := (0 : Int32)) hx hb dX2_hangsFor_22 (by decide) ?_
    exact g_zret M hr hlk (by first | rfl | exact bI_nar _) hR hS (by omega) (by omega) dX2_hangsFor_23 (⟨by unfold fHf; rw [bI_0] at c5; rw [c5]; rfl, rfl⟩)
  · refine lv_aload_n hx hb dX2_hangsFor_8 rfl (lv_at hl 0 rfl) ?_
    refine lv_iload_n hx hb dX2_hangsFor_9 rfl (lv_at hl 1 rfl) ?_
    refine lv_iconst (v := (1 : Int32)) hx hb dX2_hangsFor_10 (by decide) ?_
    refine g_ki (g_V (As := [_, _]) M hR hS (c_X2_of l K hA (by first | assumption | rfl) o 1 (by omega)) (lw_V q1153 q1155 qs27 q73 q1156) 2 md_X2_of rfl ⟨rfl, rfl⟩ ⟨Nat.le_of_ble_eq_true rfl, Nat.le_of_ble_eq_true rfl⟩ (hR.recv M (tG_0 hA) rfl) rfl hl.1 rfl (lv_room (Nat.le_of_ble_eq_true rfl)) dX2_hangsFor_11 ⟨(by first | exact Nat.le_refl _ | exact Nat.zero_le _ | (dsimp only; omega)), (by first | exact Nat.le_refl _ | exact Nat.zero_le _ | (dsimp only; omega))⟩) hS (fun r11 G11 H locs hp11 hR hS => ?_)
    obtain ⟨rfl, rfl⟩ := hp11
    refine lv_iload_n hx hb dX2_hangsFor_14 rfl (lv_at hl 2 rfl) ?_
    refine lv_icmp_ne (tgt := 22) hx hb dX2_hangsFor_15 (by decide) (fun c15 => ?_) (fun c15 => ?_)
    · refine lv_iconst (v := (0 : Int32)) hx hb dX2_hangsFor_22 (by decide) ?_
      exact g_zret M hr hlk (by first | rfl | exact bI_nar _) hR hS (by omega) (by omega) dX2_hangsFor_23 (⟨by unfold fHf; rw [bI_n0] at c5; rw [c5]; simp [bI, c15], rfl⟩)
    · refine lv_iconst (v := (1 : Int32)) hx hb dX2_hangsFor_18 (by decide) ?_
      refine lv_goto (tgt := 23) hx hb dX2_hangsFor_19 (by decide) ?_
      exact g_zret M hr hlk (by first | rfl | exact bI_nar _) hR hS (by omega) (by omega) dX2_hangsFor_23 (⟨by unfold fHf; rw [bI_n0] at c5; rw [c5]; simp [bI, c15], rfl⟩)

theorem md_X2_rankOf : gMd yX2_rankOf 1 := by
  unfold gMd
  decide +kernel
set_option maxHeartbeats 4000000 in
set_option maxRecDepth 100000 in
theorem c_X2_rankOf (l : Launch) (K : gK) {G0 : gG} {A : Nat → Nat} {V : tV} {F : Nat → Int32} (hA : tInj A) (hF : V.2.1 1 = F) (o p9 : Nat) (h : o < 40) (hp9 : p9 < 6) (h0 : fo F o 0 = nI p9) : Met l yX2_rankOf (ws_ yX2_rankOf cX2_rankOf 2 (Option.some Jvm.ClassFile.FieldType.int)) (gRm 1 0 0 22) (gPre K [.ref (A 0), .int (nI o)] (tG K G0 A V)) (gQi K (fun r G1 => r = fRk F o ∧ G1 = tG K G0 A V)) 0 0 (gA K) := by
  refine g_met (by decide) (Nat.le_of_ble_eq_true rfl) ?_
  intro p e s m below meth c M hr hlk hnm hR ls hl
  have M : gM K p s m _ c cX2_rankOf 2 RX2 := M
  have hx := M.hx
  have hb := M.hb
  have hS : va_S (gA K) s.heap s.heap [] := va_S.rf
  have hl : lv_has ls 2 [(0, .ref (A 0)), (1, .int (nI o))] := hl
  have hF0 := hF
  refine lv_aload_n hx hb dX2_rankOf_0 rfl (lv_at hl 0 rfl) ?_
  refine t_get M hA hR 1 (by decide) q1040 rfl rfl dX2_rankOf_1 ?_
  refine lv_bipush (v := (6 : Int32)) hx hb dX2_rankOf_4 (by decide) ?_
  refine lv_aload_n hx hb dX2_rankOf_6 rfl (lv_at hl 0 rfl) ?_
  refine lv_iload_n hx hb dX2_rankOf_7 rfl (lv_at hl 1 rfl) ?_
  refine lv_iconst (v := (0 : Int32)) hx hb dX2_rankOf_8 (by decide) ?_
  refine g_ki (g_V (As := [_, _]) M hR hS (c_X2_of l K hA (by first | assumption | rfl) o 0 (by omega)) (lw_V q1153 q1155 qs27 q73 q1156) 2 md_X2_of rfl ⟨rfl, rfl⟩ ⟨Nat.le_of_ble_eq_true rfl, Nat.le_of_ble_eq_true rfl⟩ (hR.recv M (tG_0 hA) rfl) rfl hl.1 rfl (lv_room (Nat.le_of_ble_eq_true rfl)) dX2_rankOf_9 ⟨(by first | exact Nat.le_refl _ | exact Nat.zero_le _ | (dsimp only; omega)), (by first | exact Nat.le_refl _ | exact Nat.zero_le _ | (dsimp only; omega))⟩) hS (fun r9 G9 H locs hp9 hR hS => ?_)
  obtain ⟨rfl, rfl⟩ := hp9
  refine lv_iadd hx hb dX2_rankOf_12 ?_
  refine t_aldF M hA (by first | assumption | rfl) hR (by decide) (6 + p9) (by rw [h0]; exact nI_add 6 p9) (by show 6 + p9 < 292; omega) dX2_rankOf_13 ?_
  exact g_iret M hr hlk hR hS (by omega) (by omega) dX2_rankOf_14 (⟨by unfold fRk; rw [h0, nI_clamp (by omega)], rfl⟩)

theorem md_X2_isFrom : gMd yX2_isFrom 3 := by
  unfold gMd
  decide +kernel
set_option maxHeartbeats 4000000 in
set_option maxRecDepth 100000 in
theorem c_X2_isFrom (l : Launch) (K : gK) {G : gG} (b : Int32) (lo hi : UInt32) : Met l yX2_isFrom (ws_ yX2_isFrom cX2_isFrom 4 (Option.some Jvm.ClassFile.FieldType.boolean)) (gRm 1 0 0 60) (gPre K [.int b, .float lo, .float hi] G) (gQi K (fun r G1 => r = bI (fFrom b lo hi) ∧ G1 = G)) 0 0 (gA K) := by
  refine g_met (by decide) (Nat.le_of_ble_eq_true rfl) ?_
  intro p e s m below meth c M hr hlk hnm hR ls hl
  have M : gM K p s m _ c cX2_isFrom 4 RX2 := M
  have hx := M.hx
  have hb := M.hb
  have hS : va_S (gA K) s.heap s.heap [] := va_S.rf
  have hl : lv_has ls 4 [(0, .int b), (1, .float lo), (2, .float hi)] := hl
  refine lv_iload_n hx hb dX2_isFrom_0 rfl (lv_at hl 0 rfl) ?_
  refine lv_ldc hx hb M.hown (M.hts _ q1121) dX2_isFrom_1 ?_
  refine lv_iand hx hb dX2_isFrom_3 ?_
  refine lv_ldc hx hb M.hown (M.hts _ q1122) dX2_isFrom_4 ?_
  refine lv_icmp_le (tgt := 11) hx hb dX2_isFrom_6 (by decide) (fun c6 => ?_) (fun c6 => ?_)
  · refine lv_iload_n hx hb dX2_isFrom_11 rfl (lv_at hl 0 rfl) ?_
    refine g_i2f M hl.1 q1123 q428 q427 q78 (sn_ok (by unfold fRe; exact decide_eq_true c6)) dX2_isFrom_12 (Nat.le_of_ble_eq_true rfl) (Nat.le_of_ble_eq_true rfl) ?_
    refine lv_fstore_n (lv' := [(3, _), (0, _), (1, _), (2, _)]) hx hb dX2_isFrom_15 rfl hl (by decide) rfl (fun ls hl => ?_)
    refine lv_fload_n hx hb dX2_isFrom_16 rfl (lv_at hl 0 rfl) ?_
    refine lv_fload_n hx hb dX2_isFrom_17 rfl (lv_at hl 2 rfl) ?_
    refine lv_fcmp hx hb dX2_isFrom_18 ?_
    refine lv_if_lt (tgt := 32) hx hb dX2_isFrom_19 (by decide) (fun c19 => ?_) (fun c19 => ?_)
    · refine lv_iconst (v := (0 : Int32)) hx hb dX2_isFrom_32 (by decide) ?_
      exact g_zret M hr hlk (by first | rfl | exact bI_nar _) hR hS (by omega) (by omega) dX2_isFrom_33 (⟨by unfold fFrom fRe fRng; simp [bI, *], rfl⟩)
    · refine lv_fload_n hx hb dX2_isFrom_22 rfl (lv_at hl 0 rfl) ?_
      refine lv_fload_n hx hb dX2_isFrom_23 rfl (lv_at hl 3 rfl) ?_
      refine lv_fcmp hx hb dX2_isFrom_24 ?_
      refine lv_if_gt (tgt := 32) hx hb dX2_isFrom_25 (by decide) (fun c25 => ?_) (fun c25 => ?_)
      · refine lv_iconst (v := (0 : Int32)) hx hb dX2_isFrom_32 (by decide) ?_
        exact g_zret M hr hlk (by first | rfl | exact bI_nar _) hR hS (by omega) (by omega) dX2_isFrom_33 (⟨by unfold fFrom fRe fRng; simp [bI, *], rfl⟩)
      · refine lv_iconst (v := (1 : Int32)) hx hb dX2_isFrom_28 (by decide) ?_
        refine lv_goto (tgt := 33) hx hb dX2_isFrom_29 (by decide) ?_
        exact g_zret M hr hlk (by first | rfl | exact bI_nar _) hR hS (by omega) (by omega) dX2_isFrom_33 (⟨by unfold fFrom fRe fRng; simp [bI, *], rfl⟩)
  · refine lv_iconst (v := (0 : Int32)) hx hb dX2_isFrom_9 (by decide) ?_
    exact g_zret M hr hlk (by first | rfl | exact bI_nar _) hR hS (by omega) (by omega) dX2_isFrom_10 (⟨by unfold fFrom fRe; rw [decide_eq_false c6]; rfl, rfl⟩)

theorem md_X2_isNumber : gMd yX2_isNumber 1 := by
  unfold gMd
  decide +kernel
set_option maxHeartbeats 4000000 in
set_option maxRecDepth 100000 in
theorem c_X2_isNumber (l : Launch) (K : gK) {G : gG} (b : Int32) : Met l yX2_isNumber (ws_ yX2_isNumber cX2_isNumber 1 (Option.some Jvm.ClassFile.FieldType.boolean)) (gRm 2 0 0 83) (gPre K [.int b] G) (gQi K (fun r G1 => r = bI (fFrom b (3296329728 : UInt32) (1148846080 : UInt32)) ∧ G1 = G)) 0 0 (gA K) := by
  refine g_met (by decide) (Nat.le_of_ble_eq_true rfl) ?_
  intro p e s m below meth c M hr hlk hnm hR ls hl
  have M : gM K p s m _ c cX2_isNumber 1 RX2 := M
  have hx := M.hx
  have hb := M.hb
  have hS : va_S (gA K) s.heap s.heap [] := va_S.rf
  have hl : lv_has ls 1 [(0, .int b)] := hl
  refine lv_iload_n hx hb dX2_isNumber_0 rfl (lv_at hl 0 rfl) ?_
  refine lv_ldcf hx hb M.hown (M.hts _ q1142) dX2_isNumber_1 ?_
  refine lv_ldcf hx hb M.hown (M.hts _ q1143) dX2_isNumber_3 ?_
  refine g_ki (g_S (As := [_, _, _]) M hR hS (c_X2_isFrom l K _ _ _) (lw_S q1118 q1119 q73 q1120) 3 md_X2_isFrom ⟨rfl, rfl⟩ ⟨Nat.le_of_ble_eq_true rfl, Nat.le_of_ble_eq_true rfl⟩ rfl hl.1 rfl (lv_room (Nat.le_of_ble_eq_true rfl)) dX2_isNumber_5 ⟨(by first | exact Nat.le_refl _ | exact Nat.zero_le _ | (dsimp only; omega)), (by first | exact Nat.le_refl _ | exact Nat.zero_le _ | (dsimp only; omega))⟩) hS (fun r5 G5 H locs hp5 hR hS => ?_)
  obtain ⟨rfl, e0⟩ := hp5
  rw [e0] at hR
  exact g_zret M hr hlk (by first | rfl | exact bI_nar _) hR hS (by omega) (by omega) dX2_isNumber_8 (⟨rfl, rfl⟩)

theorem md_X2_isForce : gMd yX2_isForce 1 := by
  unfold gMd
  decide +kernel
set_option maxHeartbeats 4000000 in
set_option maxRecDepth 100000 in
theorem c_X2_isForce (l : Launch) (K : gK) {G : gG} (b : Int32) : Met l yX2_isForce (ws_ yX2_isForce cX2_isForce 1 (Option.some Jvm.ClassFile.FieldType.boolean)) (gRm 2 0 0 83) (gPre K [.int b] G) (gQi K (fun r G1 => r = bI (fFrom b (1036831949 : UInt32) (1092616192 : UInt32)) ∧ G1 = G)) 0 0 (gA K) := by
  refine g_met (by decide) (Nat.le_of_ble_eq_true rfl) ?_
  intro p e s m below meth c M hr hlk hnm hR ls hl
  have M : gM K p s m _ c cX2_isForce 1 RX2 := M
  have hx := M.hx
  have hb := M.hb
  have hS : va_S (gA K) s.heap s.heap [] := va_S.rf
  have hl : lv_has ls 1 [(0, .int b)] := hl
  refine lv_iload_n hx hb dX2_isForce_0 rfl (lv_at hl 0 rfl) ?_
  refine lv_ldcf hx hb M.hown (M.hts _ q1147) dX2_isForce_1 ?_
  refine lv_ldcf hx hb M.hown (M.hts _ q1148) dX2_isForce_3 ?_
  refine g_ki (g_S (As := [_, _, _]) M hR hS (c_X2_isFrom l K _ _ _) (lw_S q1118 q1119 q73 q1120) 3 md_X2_isFrom ⟨rfl, rfl⟩ ⟨Nat.le_of_ble_eq_true rfl, Nat.le_of_ble_eq_true rfl⟩ rfl hl.1 rfl (lv_room (Nat.le_of_ble_eq_true rfl)) dX2_isForce_5 ⟨(by first | exact Nat.le_refl _ | exact Nat.zero_le _ | (dsimp only; omega)), (by first | exact Nat.le_refl _ | exact Nat.zero_le _ | (dsimp only; omega))⟩) hS (fun r5 G5 H locs hp5 hR hS => ?_)
  obtain ⟨rfl, e0⟩ := hp5
  rw [e0] at hR
  exact g_zret M hr hlk (by first | rfl | exact bI_nar _) hR hS (by omega) (by omega) dX2_isForce_8 (⟨rfl, rfl⟩)

theorem md_X2_many : gMd yX2_many 2 := by
  unfold gMd
  decide +kernel
set_option maxHeartbeats 4000000 in
set_option maxRecDepth 100000 in
theorem c_X2_many (l : Launch) (K : gK) {G0 : gG} {A : Nat → Nat} {V : tV} {F : Nat → Int32} (hA : tInj A) (hF : V.2.1 1 = F) (w : Int32) (a : Nat) {N : Nat} (hN : F 1 = nI N) (hN2 : N ≤ 40) (ha : a ≤ N) : Met l yX2_many (ws_ yX2_many cX2_many 5 (Option.some Jvm.ClassFile.FieldType.int)) (gRm 3 0 0 65) (gPre K [.ref (A 0), .int w, .int (nI a)] (tG K G0 A V)) (gQi K (fun r G1 => r = nI (fCnt (fHf F w) a (N - a)) ∧ G1 = tG K G0 A V)) 0 0 (gA K) := by
  refine g_met (by decide) (Nat.le_of_ble_eq_true rfl) ?_
  intro p e s m below meth c M hr hlk hnm hR ls hl
  have M : gM K p s m _ c cX2_many 5 RX2 := M
  have hx := M.hx
  have hb := M.hb
  have hS : va_S (gA K) s.heap s.heap [] := va_S.rf
  have hl : lv_has ls 5 [(0, .ref (A 0)), (1, .int w), (2, .int (nI a))] := hl
  have hF0 := hF
  refine lv_iconst (v := (0 : Int32)) hx hb dX2_many_0 (by decide) ?_
  refine lv_istore_n (lv' := [(3, _), (0, _), (1, _), (2, _)]) hx hb dX2_many_1 rfl hl (by decide) rfl (fun ls hl => ?_)
  refine lv_iload_n hx hb dX2_many_2 rfl (lv_at hl 3 rfl) ?_
  refine lv_istore (lv' := [(4, _), (3, _), (0, _), (1, _), (2, _)]) hx hb dX2_many_3 hl (by decide) rfl (fun ls hl => ?_)
  refine g_loop (pc := 5) (fun (k : Nat) (ls : Array Slot) (G : gG) (cells slots : Nat) => ∃ j, lv_has ls 5 [(4, .int (nI (a + j))), (3, .int (nI (fCnt (fHf F w) a j))), (1, .int w), (0, .ref (A 0))] ∧ a + j ≤ N ∧ k = N - (a + j) ∧ G = tG K G0 A V ∧ cells = 0 ∧ slots = 0) ?_ (N - a) ⟨0, lv_sub hl [0, 1, 3, 2] rfl, by omega, rfl, rfl, rfl, rfl⟩ hR hS
  intro k ls G H locs cells slots hI hR hS ih5
  obtain ⟨j, hl, hj, rfl, rfl, rfl, rfl⟩ := hI
  refine lv_iload hx hb dX2_many_5 (lv_at hl 0 rfl) ?_
  refine lv_aload_n hx hb dX2_many_7 rfl (lv_at hl 3 rfl) ?_
  refine t_get M hA hR 1 (by decide) q1040 rfl rfl dX2_many_8 ?_
  refine lv_iconst (v := (1 : Int32)) hx hb dX2_many_11 (by decide) ?_
  refine t_aldF M hA (by first | assumption | rfl) hR (by decide) 1 rfl (by decide) dX2_many_12 ?_
  refine lv_icmp_ge (tgt := 40) hx hb dX2_many_13 (by decide) (fun c13 => ?_) (fun c13 => ?_)
  · refine lv_iload_n hx hb dX2_many_40 rfl (lv_at hl 1 rfl) ?_
    exact g_iret M hr hlk hR hS (by omega) (by omega) dX2_many_41 (⟨by have := ge_end hN c13 hN2 hj; rw [show N - a = j by omega], rfl⟩)
  · have hjN := ge_not hN c13 hN2 hj
    refine lv_iload_n hx hb dX2_many_16 rfl (lv_at hl 1 rfl) ?_
    refine lv_aload_n hx hb dX2_many_17 rfl (lv_at hl 3 rfl) ?_
    refine lv_iload hx hb dX2_many_18 (lv_at hl 0 rfl) ?_
    refine lv_iload_n hx hb dX2_many_20 rfl (lv_at hl 2 rfl) ?_
    refine g_ki (g_V (As := [_, _]) M hR hS (c_X2_hangsFor l K hA (by first | assumption | rfl) (a + j) w (by have := ge_not hN c13 hN2 hj; omega)) (lw_V q1177 q1179 qs31 q73 q1180) 2 md_X2_hangsFor rfl ⟨rfl, rfl⟩ ⟨Nat.le_of_ble_eq_true rfl, Nat.le_of_ble_eq_true rfl⟩ (hR.recv M (tG_0 hA) rfl) rfl hl.1 rfl (lv_room (Nat.le_of_ble_eq_true rfl)) dX2_many_21 ⟨(by first | exact Nat.le_refl _ | exact Nat.zero_le _ | (dsimp only; omega)), (by first | exact Nat.le_refl _ | exact Nat.zero_le _ | (dsimp only; omega))⟩) hS (fun r21 G21 H locs hp21 hR hS => ?_)
    obtain ⟨rfl, rfl⟩ := hp21
    refine lv_if_eq (tgt := 31) hx hb dX2_many_24 (by decide) (fun c24 => ?_) (fun c24 => ?_)
    · refine lv_iconst (v := (0 : Int32)) hx hb dX2_many_31 (by decide) ?_
      refine lv_iadd hx hb dX2_many_32 ?_
      refine g_topi (nI (fCnt (fHf F w) a (j + 1))) (by first | exact cnt_f c24 | exact cnt_t c24) ?_
      refine lv_istore_n (lv' := [(3, _), (4, _), (1, _), (0, _)]) hx hb dX2_many_33 rfl hl (by decide) rfl (fun ls hl => ?_)
      refine g_inc (lv' := [(4, _), (3, _), (1, _), (0, _)]) M dX2_many_34 hl (k := 1) rfl (by decide) rfl (fun ls hl => ?_)
      refine lv_goto (tgt := 5) hx hb dX2_many_37 (by decide) ?_
      exact ih5 (N - (a + (j + 1))) _ _ _ _ _ _ (by omega) ⟨j + 1, lv_sub hl [0, 1, 2, 3] rfl, by have := ge_not hN c13 hN2 hj; omega, rfl, rfl, rfl, rfl⟩ hR hS
    · refine lv_iconst (v := (1 : Int32)) hx hb dX2_many_27 (by decide) ?_
      refine lv_goto (tgt := 32) hx hb dX2_many_28 (by decide) ?_
      refine lv_iadd hx hb dX2_many_32 ?_
      refine g_topi (nI (fCnt (fHf F w) a (j + 1))) (by first | exact cnt_f c24 | exact cnt_t c24) ?_
      refine lv_istore_n (lv' := [(3, _), (4, _), (1, _), (0, _)]) hx hb dX2_many_33 rfl hl (by decide) rfl (fun ls hl => ?_)
      refine g_inc (lv' := [(4, _), (3, _), (1, _), (0, _)]) M dX2_many_34 hl (k := 1) rfl (by decide) rfl (fun ls hl => ?_)
      refine lv_goto (tgt := 5) hx hb dX2_many_37 (by decide) ?_
      exact ih5 (N - (a + (j + 1))) _ _ _ _ _ _ (by omega) ⟨j + 1, lv_sub hl [0, 1, 2, 3] rfl, by have := ge_not hN c13 hN2 hj; omega, rfl, rfl, rfl, rfl⟩ hR hS

theorem md_X2_allHang : gMd yX2_allHang 0 := by
  unfold gMd
  decide +kernel
set_option maxHeartbeats 4000000 in
set_option maxRecDepth 100000 in
theorem c_X2_allHang (l : Launch) (K : gK) {G0 : gG} {A : Nat → Nat} {V : tV} {F : Nat → Int32} (hA : tInj A) (hF : V.2.1 1 = F) {P N : Nat} (ok : fOk F P N) : Met l yX2_allHang (ws_ yX2_allHang cX2_allHang 3 (Option.some Jvm.ClassFile.FieldType.int)) (gRm 1 0 0 22) (gPre K [.ref (A 0)] (tG K G0 A V)) (gQi K (fun r G1 => r = fAll F N ∧ G1 = tG K G0 A V)) 0 0 (gA K) := by
  refine g_met (by decide) (Nat.le_of_ble_eq_true rfl) ?_
  intro p e s m below meth c M hr hlk hnm hR ls hl
  have M : gM K p s m _ c cX2_allHang 3 RX2 := M
  have hx := M.hx
  have hb := M.hb
  have hS : va_S (gA K) s.heap s.heap [] := va_S.rf
  have hl : lv_has ls 3 [(0, .ref (A 0))] := hl
  have hF0 := hF
  have hN := ok.hN
  have hN2 := ok.hN2
  refine lv_iconst (v := (0 : Int32)) hx hb dX2_allHang_0 (by decide) ?_
  refine lv_istore_n (lv' := [(1, _), (0, _)]) hx hb dX2_allHang_1 rfl hl (by decide) rfl (fun ls hl => ?_)
  refine lv_iconst (v := (0 : Int32)) hx hb dX2_allHang_2 (by decide) ?_
  refine lv_istore_n (lv' := [(2, _), (1, _), (0, _)]) hx hb dX2_allHang_3 rfl hl (by decide) rfl (fun ls hl => ?_)
  refine g_loop (pc := 4) (fun (k : Nat) (ls : Array Slot) (G : gG) (cells slots : Nat) => ∃ j, lv_has ls 3 [(2, .int (nI j)), (1, .int (fAll F j)), (0, .ref (A 0))] ∧ j ≤ N ∧ k = N - j ∧ G = tG K G0 A V ∧ cells = 0 ∧ slots = 0) ?_ (N) ⟨0, lv_sub hl [0, 1, 2] rfl, by omega, rfl, rfl, rfl, rfl⟩ hR hS
  intro k ls G H locs cells slots hI hR hS ih4
  obtain ⟨j, hl, hj, rfl, rfl, rfl, rfl⟩ := hI
  refine lv_iload_n hx hb dX2_allHang_4 rfl (lv_at hl 0 rfl) ?_
  refine lv_aload_n hx hb dX2_allHang_5 rfl (lv_at hl 2 rfl) ?_
  refine t_get M hA hR 1 (by decide) q1040 rfl rfl dX2_allHang_6 ?_
  refine lv_iconst (v := (1 : Int32)) hx hb dX2_allHang_9 (by decide) ?_
  refine t_aldF M hA (by first | assumption | rfl) hR (by decide) 1 rfl (by decide) dX2_allHang_10 ?_
  refine lv_icmp_ge (tgt := 30) hx hb dX2_allHang_11 (by decide) (fun c11 => ?_) (fun c11 => ?_)
  · refine lv_iload_n hx hb dX2_allHang_30 rfl (lv_at hl 1 rfl) ?_
    exact g_iret M hr hlk hR hS (by omega) (by omega) dX2_allHang_31 (⟨by rw [ge_end hN c11 hN2 hj], rfl⟩)
  · have hjN := ge_not hN c11 hN2 hj
    refine lv_iload_n hx hb dX2_allHang_14 rfl (lv_at hl 1 rfl) ?_
    refine lv_aload_n hx hb dX2_allHang_15 rfl (lv_at hl 2 rfl) ?_
    refine lv_iload_n hx hb dX2_allHang_16 rfl (lv_at hl 0 rfl) ?_
    refine lv_bipush (v := (6 : Int32)) hx hb dX2_allHang_17 (by decide) ?_
    refine g_ki (g_V (As := [_, _]) M hR hS (c_X2_of l K hA (by first | assumption | rfl) j 6 (by omega)) (lw_V q1153 q1155 qs27 q73 q1156) 2 md_X2_of rfl ⟨rfl, rfl⟩ ⟨Nat.le_of_ble_eq_true rfl, Nat.le_of_ble_eq_true rfl⟩ (hR.recv M (tG_0 hA) rfl) rfl hl.1 rfl (lv_room (Nat.le_of_ble_eq_true rfl)) dX2_allHang_19 ⟨(by first | exact Nat.le_refl _ | exact Nat.zero_le _ | (dsimp only; omega)), (by first | exact Nat.le_refl _ | exact Nat.zero_le _ | (dsimp only; omega))⟩) hS (fun r19 G19 H locs hp19 hR hS => ?_)
    obtain ⟨rfl, rfl⟩ := hp19
    refine lv_iadd hx hb dX2_allHang_22 ?_
    refine lv_istore_n (lv' := [(1, _), (2, _), (0, _)]) hx hb dX2_allHang_23 rfl hl (by decide) rfl (fun ls hl => ?_)
    refine g_inc (lv' := [(2, _), (1, _), (0, _)]) M dX2_allHang_24 hl (k := 1) rfl (by decide) rfl (fun ls hl => ?_)
    refine lv_goto (tgt := 4) hx hb dX2_allHang_27 (by decide) ?_
    exact ih4 (N - (j + 1)) _ _ _ _ _ _ (by omega) ⟨j + 1, lv_sub hl [0, 1, 2] rfl, by have := ge_not hN c11 hN2 hj; omega, rfl, rfl, rfl, rfl⟩ hR hS

theorem md_X2_top : gMd yX2_top 1 := by
  unfold gMd
  decide +kernel
set_option maxHeartbeats 4000000 in
set_option maxRecDepth 100000 in
theorem c_X2_top (l : Launch) (K : gK) {G0 : gG} {A : Nat → Nat} {V : tV} {F : Nat → Int32} (hA : tInj A) (hF : V.2.1 1 = F) (w : Int32) {P N : Nat} (ok : fOk F P N) : Met l yX2_top (ws_ yX2_top cX2_top 4 (Option.some Jvm.ClassFile.FieldType.int)) (gRm 3 0 0 65) (gPre K [.ref (A 0), .int w] (tG K G0 A V)) (gQi K (fun r G1 => r = oI (fTop F w N) ∧ G1 = tG K G0 A V)) 0 0 (gA K) := by
  refine g_met (by decide) (Nat.le_of_ble_eq_true rfl) ?_
  intro p e s m below meth c M hr hlk hnm hR ls hl
  have M : gM K p s m _ c cX2_top 4 RX2 := M
  have hx := M.hx
  have hb := M.hb
  have hS : va_S (gA K) s.heap s.heap [] := va_S.rf
  have hl : lv_has ls 4 [(0, .ref (A 0)), (1, .int w)] := hl
  have hF0 := hF
  have hN := ok.hN
  have hN2 := ok.hN2
  refine lv_bipush (v := ((-5) : Int32)) hx hb dX2_top_0 (by decide) ?_
  refine lv_istore_n (lv' := [(2, _), (0, _), (1, _)]) hx hb dX2_top_2 rfl hl (by decide) rfl (fun ls hl => ?_)
  refine lv_iconst (v := (0 : Int32)) hx hb dX2_top_3 (by decide) ?_
  refine lv_istore_n (lv' := [(3, _), (2, _), (0, _), (1, _)]) hx hb dX2_top_4 rfl hl (by decide) rfl (fun ls hl => ?_)
  refine g_loop (pc := 5) (fun (k : Nat) (ls : Array Slot) (G : gG) (cells slots : Nat) => ∃ j, lv_has ls 4 [(3, .int (nI j)), (2, .int (oI (fTop F w j))), (1, .int w), (0, .ref (A 0))] ∧ j ≤ N ∧ k = N - j ∧ G = tG K G0 A V ∧ cells = 0 ∧ slots = 0) ?_ (N) ⟨0, lv_sub hl [0, 1, 3, 2] rfl, by omega, rfl, rfl, rfl, rfl⟩ hR hS
  intro k ls G H locs cells slots hI hR hS ih5
  obtain ⟨j, hl, hj, rfl, rfl, rfl, rfl⟩ := hI
  refine lv_iload_n hx hb dX2_top_5 rfl (lv_at hl 0 rfl) ?_
  refine lv_aload_n hx hb dX2_top_6 rfl (lv_at hl 3 rfl) ?_
  refine t_get M hA hR 1 (by decide) q1040 rfl rfl dX2_top_7 ?_
  refine lv_iconst (v := (1 : Int32)) hx hb dX2_top_10 (by decide) ?_
  refine t_aldF M hA (by first | assumption | rfl) hR (by decide) 1 rfl (by decide) dX2_top_11 ?_
  refine lv_icmp_ge (tgt := 36) hx hb dX2_top_12 (by decide) (fun c12 => ?_) (fun c12 => ?_)
  · refine lv_iload_n hx hb dX2_top_36 rfl (lv_at hl 1 rfl) ?_
    exact g_iret M hr hlk hR hS (by omega) (by omega) dX2_top_37 (⟨by rw [ge_end hN c12 hN2 hj], rfl⟩)
  · have hjN := ge_not hN c12 hN2 hj
    refine lv_aload_n hx hb dX2_top_15 rfl (lv_at hl 3 rfl) ?_
    refine lv_iload_n hx hb dX2_top_16 rfl (lv_at hl 0 rfl) ?_
    refine lv_iload_n hx hb dX2_top_17 rfl (lv_at hl 2 rfl) ?_
    refine g_ki (g_V (As := [_, _]) M hR hS (c_X2_hangsFor l K hA (by first | assumption | rfl) j w (by have := ge_not hN c12 hN2 hj; omega)) (lw_V q1177 q1179 qs31 q73 q1180) 2 md_X2_hangsFor rfl ⟨rfl, rfl⟩ ⟨Nat.le_of_ble_eq_true rfl, Nat.le_of_ble_eq_true rfl⟩ (hR.recv M (tG_0 hA) rfl) rfl hl.1 rfl (lv_room (Nat.le_of_ble_eq_true rfl)) dX2_top_18 ⟨(by first | exact Nat.le_refl _ | exact Nat.zero_le _ | (dsimp only; omega)), (by first | exact Nat.le_refl _ | exact Nat.zero_le _ | (dsimp only; omega))⟩) hS (fun r18 G18 H locs hp18 hR hS => ?_)
    obtain ⟨rfl, rfl⟩ := hp18
    refine lv_if_eq (tgt := 28) hx hb dX2_top_21 (by decide) (fun c21 => ?_) (fun c21 => ?_)
    · refine lv_iload_n hx hb dX2_top_28 rfl (lv_at hl 1 rfl) ?_
      refine g_topi (oI (fTop F w (j + 1))) (by first | (rw [top_a c21]; done) | (rw [top_b c21]; rfl)) ?_
      refine lv_istore_n (lv' := [(2, _), (3, _), (1, _), (0, _)]) hx hb dX2_top_29 rfl hl (by decide) rfl (fun ls hl => ?_)
      refine g_inc (lv' := [(3, _), (2, _), (1, _), (0, _)]) M dX2_top_30 hl (k := 1) rfl (by decide) rfl (fun ls hl => ?_)
      refine lv_goto (tgt := 5) hx hb dX2_top_33 (by decide) ?_
      exact ih5 (N - (j + 1)) _ _ _ _ _ _ (by omega) ⟨j + 1, lv_sub hl [0, 1, 2, 3] rfl, by have := ge_not hN c12 hN2 hj; omega, rfl, rfl, rfl, rfl⟩ hR hS
    · refine lv_iload_n hx hb dX2_top_24 rfl (lv_at hl 0 rfl) ?_
      refine lv_goto (tgt := 29) hx hb dX2_top_25 (by decide) ?_
      refine g_topi (oI (fTop F w (j + 1))) (by first | (rw [top_a c21]; done) | (rw [top_b c21]; rfl)) ?_
      refine lv_istore_n (lv' := [(2, _), (3, _), (1, _), (0, _)]) hx hb dX2_top_29 rfl hl (by decide) rfl (fun ls hl => ?_)
      refine g_inc (lv' := [(3, _), (2, _), (1, _), (0, _)]) M dX2_top_30 hl (k := 1) rfl (by decide) rfl (fun ls hl => ?_)
      refine lv_goto (tgt := 5) hx hb dX2_top_33 (by decide) ?_
      exact ih5 (N - (j + 1)) _ _ _ _ _ _ (by omega) ⟨j + 1, lv_sub hl [0, 1, 2, 3] rfl, by have := ge_not hN c12 hN2 hj; omega, rfl, rfl, rfl, rfl⟩ hR hS

theorem md_X2_ruling : gMd yX2_ruling 1 := by
  unfold gMd
  decide +kernel
set_option maxHeartbeats 4000000 in
set_option maxRecDepth 100000 in
theorem c_X2_ruling (l : Launch) (K : gK) {G0 : gG} {A : Nat → Nat} {V : tV} {F : Nat → Int32} (hA : tInj A) (hF : V.2.1 1 = F) (w : Int32) {P N : Nat} (ok : fOk F P N) : Met l yX2_ruling (ws_ yX2_ruling cX2_ruling 4 (Option.some Jvm.ClassFile.FieldType.int)) (gRm 3 0 0 65) (gPre K [.ref (A 0), .int w] (tG K G0 A V)) (gQi K (fun r G1 => r = oI (fRul F w N) ∧ G1 = tG K G0 A V)) 0 0 (gA K) := by
  refine g_met (by decide) (Nat.le_of_ble_eq_true rfl) ?_
  intro p e s m below meth c M hr hlk hnm hR ls hl
  have M : gM K p s m _ c cX2_ruling 4 RX2 := M
  have hx := M.hx
  have hb := M.hb
  have hS : va_S (gA K) s.heap s.heap [] := va_S.rf
  have hl : lv_has ls 4 [(0, .ref (A 0)), (1, .int w)] := hl
  have hF0 := hF
  have hN := ok.hN
  have hN2 := ok.hN2
  have hP := ok.who6
  refine lv_bipush (v := ((-5) : Int32)) hx hb dX2_ruling_0 (by decide) ?_
  refine lv_istore_n (lv' := [(2, _), (0, _), (1, _)]) hx hb dX2_ruling_2 rfl hl (by decide) rfl (fun ls hl => ?_)
  refine lv_iconst (v := (0 : Int32)) hx hb dX2_ruling_3 (by decide) ?_
  refine lv_istore_n (lv' := [(3, _), (2, _), (0, _), (1, _)]) hx hb dX2_ruling_4 rfl hl (by decide) rfl (fun ls hl => ?_)
  refine g_loop (pc := 5) (fun (k : Nat) (ls : Array Slot) (G : gG) (cells slots : Nat) => ∃ j, lv_has ls 4 [(3, .int (nI j)), (2, .int (oI (fRul F w j))), (1, .int w), (0, .ref (A 0))] ∧ j ≤ N ∧ k = N - j ∧ G = tG K G0 A V ∧ cells = 0 ∧ slots = 0) ?_ (N) ⟨0, lv_sub hl [0, 1, 3, 2] rfl, by omega, rfl, rfl, rfl, rfl⟩ hR hS
  intro k ls G H locs cells slots hI hR hS ih5
  obtain ⟨j, hl, hj, rfl, rfl, rfl, rfl⟩ := hI
  refine lv_iload_n hx hb dX2_ruling_5 rfl (lv_at hl 0 rfl) ?_
  refine lv_aload_n hx hb dX2_ruling_6 rfl (lv_at hl 3 rfl) ?_
  refine t_get M hA hR 1 (by decide) q1040 rfl rfl dX2_ruling_7 ?_
  refine lv_iconst (v := (1 : Int32)) hx hb dX2_ruling_10 (by decide) ?_
  refine t_aldF M hA (by first | assumption | rfl) hR (by decide) 1 rfl (by decide) dX2_ruling_11 ?_
  refine lv_icmp_ge (tgt := 55) hx hb dX2_ruling_12 (by decide) (fun c12 => ?_) (fun c12 => ?_)
  · refine lv_iload_n hx hb dX2_ruling_55 rfl (lv_at hl 1 rfl) ?_
    exact g_iret M hr hlk hR hS (by omega) (by omega) dX2_ruling_56 (⟨by rw [ge_end hN c12 hN2 hj], rfl⟩)
  · have hjN := ge_not hN c12 hN2 hj
    refine lv_aload_n hx hb dX2_ruling_15 rfl (lv_at hl 3 rfl) ?_
    refine lv_iload_n hx hb dX2_ruling_16 rfl (lv_at hl 0 rfl) ?_
    refine lv_iload_n hx hb dX2_ruling_17 rfl (lv_at hl 2 rfl) ?_
    refine g_ki (g_V (As := [_, _]) M hR hS (c_X2_hangsFor l K hA (by first | assumption | rfl) j w (by have := ge_not hN c12 hN2 hj; omega)) (lw_V q1177 q1179 qs31 q73 q1180) 2 md_X2_hangsFor rfl ⟨rfl, rfl⟩ ⟨Nat.le_of_ble_eq_true rfl, Nat.le_of_ble_eq_true rfl⟩ (hR.recv M (tG_0 hA) rfl) rfl hl.1 rfl (lv_room (Nat.le_of_ble_eq_true rfl)) dX2_ruling_18 ⟨(by first | exact Nat.le_refl _ | exact Nat.zero_le _ | (dsimp only; omega)), (by first | exact Nat.le_refl _ | exact Nat.zero_le _ | (dsimp only; omega))⟩) hS (fun r18 G18 H locs hp18 hR hS => ?_)
    obtain ⟨rfl, rfl⟩ := hp18
    refine lv_if_eq (tgt := 47) hx hb dX2_ruling_21 (by decide) (fun c21 => ?_) (fun c21 => ?_)
    · refine lv_iload_n hx hb dX2_ruling_47 rfl (lv_at hl 1 rfl) ?_
      refine g_topi (oI (fRul F w (j + 1))) (by rw [rul_a c21]) ?_
      refine lv_istore_n (lv' := [(2, _), (3, _), (1, _), (0, _)]) hx hb dX2_ruling_48 rfl hl (by decide) rfl (fun ls hl => ?_)
      refine g_inc (lv' := [(3, _), (2, _), (1, _), (0, _)]) M dX2_ruling_49 hl (k := 1) rfl (by decide) rfl (fun ls hl => ?_)
      refine lv_goto (tgt := 5) hx hb dX2_ruling_52 (by decide) ?_
      exact ih5 (N - (j + 1)) _ _ _ _ _ _ (by omega) ⟨j + 1, lv_sub hl [0, 1, 2, 3] rfl, by have := ge_not hN c12 hN2 hj; omega, rfl, rfl, rfl, rfl⟩ hR hS
    · refine lv_iload_n hx hb dX2_ruling_24 rfl (lv_at hl 1 rfl) ?_
      refine lv_bipush (v := ((-5) : Int32)) hx hb dX2_ruling_25 (by decide) ?_
      refine lv_icmp_eq (tgt := 43) hx hb dX2_ruling_27 (by decide) (fun c27 => ?_) (fun c27 => ?_)
      · refine lv_iload_n hx hb dX2_ruling_43 rfl (lv_at hl 0 rfl) ?_
        refine lv_goto (tgt := 48) hx hb dX2_ruling_44 (by decide) ?_
        refine g_topi (oI (fRul F w (j + 1))) (by rw [rul_b c21 (oI_n c27 (fun b h => by have := fRul_lt h; omega))]; rfl) ?_
        refine lv_istore_n (lv' := [(2, _), (3, _), (1, _), (0, _)]) hx hb dX2_ruling_48 rfl hl (by decide) rfl (fun ls hl => ?_)
        refine g_inc (lv' := [(3, _), (2, _), (1, _), (0, _)]) M dX2_ruling_49 hl (k := 1) rfl (by decide) rfl (fun ls hl => ?_)
        refine lv_goto (tgt := 5) hx hb dX2_ruling_52 (by decide) ?_
        exact ih5 (N - (j + 1)) _ _ _ _ _ _ (by omega) ⟨j + 1, lv_sub hl [0, 1, 2, 3] rfl, by have := ge_not hN c12 hN2 hj; omega, rfl, rfl, rfl, rfl⟩ hR hS
      · obtain ⟨b, hb1⟩ := oI_s c27
        have hb2 := fRul_lt hb1
        rw [hb1] at hl
        obtain ⟨p1, hp1, hp2⟩ := hP j hjN
        obtain ⟨p3, hp3, hp4⟩ := hP b (by omega)
        refine lv_aload_n hx hb dX2_ruling_30 rfl (lv_at hl 3 rfl) ?_
        refine lv_iload_n hx hb dX2_ruling_31 rfl (lv_at hl 0 rfl) ?_
        refine g_ki (g_V (As := [_]) M hR hS (c_X2_rankOf l K hA (by first | assumption | rfl) j p1 (by omega) hp1 hp2) (lw_V q1278 q1280 qs46 q73 q1281) 1 md_X2_rankOf rfl ⟨rfl, rfl⟩ ⟨Nat.le_of_ble_eq_true rfl, Nat.le_of_ble_eq_true rfl⟩ (hR.recv M (tG_0 hA) rfl) rfl hl.1 rfl (lv_room (Nat.le_of_ble_eq_true rfl)) dX2_ruling_32 ⟨(by first | exact Nat.le_refl _ | exact Nat.zero_le _ | (dsimp only; omega)), (by first | exact Nat.le_refl _ | exact Nat.zero_le _ | (dsimp only; omega))⟩) hS (fun r32 G32 H locs hp32 hR hS => ?_)
        obtain ⟨rfl, rfl⟩ := hp32
        refine lv_aload_n hx hb dX2_ruling_35 rfl (lv_at hl 3 rfl) ?_
        refine lv_iload_n hx hb dX2_ruling_36 rfl (lv_at hl 1 rfl) ?_
        refine g_ki (g_V (As := [_]) M hR hS (c_X2_rankOf l K hA (by first | assumption | rfl) b p3 (by omega) hp3 hp4) (lw_V q1278 q1280 qs46 q73 q1281) 1 md_X2_rankOf rfl ⟨rfl, rfl⟩ ⟨Nat.le_of_ble_eq_true rfl, Nat.le_of_ble_eq_true rfl⟩ (hR.recv M (tG_0 hA) rfl) rfl hl.1 rfl (lv_room (Nat.le_of_ble_eq_true rfl)) dX2_ruling_37 ⟨(by first | exact Nat.le_refl _ | exact Nat.zero_le _ | (dsimp only; omega)), (by first | exact Nat.le_refl _ | exact Nat.zero_le _ | (dsimp only; omega))⟩) hS (fun r37 G37 H locs hp37 hR hS => ?_)
        obtain ⟨rfl, rfl⟩ := hp37
        refine lv_icmp_lt (tgt := 47) hx hb dX2_ruling_40 (by decide) (fun c40 => ?_) (fun c40 => ?_)
        · refine lv_iload_n hx hb dX2_ruling_47 rfl (lv_at hl 1 rfl) ?_
          refine g_topi (oI (fRul F w (j + 1))) (by rw [rul_d hb1 c40]) ?_
          refine lv_istore_n (lv' := [(2, _), (3, _), (1, _), (0, _)]) hx hb dX2_ruling_48 rfl hl (by decide) rfl (fun ls hl => ?_)
          refine g_inc (lv' := [(3, _), (2, _), (1, _), (0, _)]) M dX2_ruling_49 hl (k := 1) rfl (by decide) rfl (fun ls hl => ?_)
          refine lv_goto (tgt := 5) hx hb dX2_ruling_52 (by decide) ?_
          exact ih5 (N - (j + 1)) _ _ _ _ _ _ (by omega) ⟨j + 1, lv_sub hl [0, 1, 2, 3] rfl, by have := ge_not hN c12 hN2 hj; omega, rfl, rfl, rfl, rfl⟩ hR hS
        · refine lv_iload_n hx hb dX2_ruling_43 rfl (lv_at hl 0 rfl) ?_
          refine lv_goto (tgt := 48) hx hb dX2_ruling_44 (by decide) ?_
          refine g_topi (oI (fRul F w (j + 1))) (by rw [rul_c c21 hb1 c40]; rfl) ?_
          refine lv_istore_n (lv' := [(2, _), (3, _), (1, _), (0, _)]) hx hb dX2_ruling_48 rfl hl (by decide) rfl (fun ls hl => ?_)
          refine g_inc (lv' := [(3, _), (2, _), (1, _), (0, _)]) M dX2_ruling_49 hl (k := 1) rfl (by decide) rfl (fun ls hl => ?_)
          refine lv_goto (tgt := 5) hx hb dX2_ruling_52 (by decide) ?_
          exact ih5 (N - (j + 1)) _ _ _ _ _ _ (by omega) ⟨j + 1, lv_sub hl [0, 1, 2, 3] rfl, by have := ge_not hN c12 hN2 hj; omega, rfl, rfl, rfl, rfl⟩ hR hS
