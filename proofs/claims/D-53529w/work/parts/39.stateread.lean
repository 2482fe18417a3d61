/-! THE COMPONENT: what a state tells (rows printed by tools/p39.py) -/
theorem md_X0_inRange : gMd yX0_inRange 3 := by
  unfold gMd
  decide +kernel
set_option maxHeartbeats 4000000 in
set_option maxRecDepth 100000 in
theorem c_X0_inRange (l : Launch) (K : gK) {G : gG} (v a b : Int32) : Met l yX0_inRange (ws_ yX0_inRange cX0_inRange 3 (Option.some Jvm.ClassFile.FieldType.boolean)) (gRm 0 0 0 0) (gPre K [.int v, .int a, .int b] G) (gQi K (fun r G1 => r = bI (fIn v a b) ∧ G1 = G)) 0 0 (gA K) := by
  refine g_met (by decide) (Nat.le_of_ble_eq_true rfl) ?_
  intro p e s m below meth c M hr hlk hnm hR ls hl
  have M : gM K p s m _ c cX0_inRange 3 RX0 := M
  have hx := M.hx
  have hb := M.hb
  have hS : va_S (gA K) s.heap s.heap [] := va_S.rf
  have hl : lv_has ls 3 [(0, .int v), (1, .int a), (2, .int b)] := hl
  refine lv_iload_n hx hb dX0_inRange_0 rfl (lv_at hl 0 rfl) ?_
  refine lv_iload_n hx hb dX0_inRange_1 rfl (lv_at hl 1 rfl) ?_
  refine lv_icmp_lt (tgt := 14) hx hb dX0_inRange_2 (by decide) (fun c2 => ?_) (fun c2 => ?_)
  · have e : fIn v a b = false := by unfold fIn; rw [Bool.and_eq_false_iff]; first | exact Or.inl (decide_eq_false (by simpa using c2)) | exact Or.inr (decide_eq_false (by simpa using c7))
    refine lv_iconst (v := (0 : Int32)) hx hb dX0_inRange_14 (by decide) ?_
    exact g_zret M hr hlk (by first | rfl | exact bI_nar _) hR hS (by omega) (by omega) dX0_inRange_15 (⟨by rw [e]; rfl, rfl⟩)
  · refine lv_iload_n hx hb dX0_inRange_5 rfl (lv_at hl 0 rfl) ?_
    refine lv_iload_n hx hb dX0_inRange_6 rfl (lv_at hl 2 rfl) ?_
    refine lv_icmp_gt (tgt := 14) hx hb dX0_inRange_7 (by decide) (fun c7 => ?_) (fun c7 => ?_)
    · have e : fIn v a b = false := by unfold fIn; rw [Bool.and_eq_false_iff]; first | exact Or.inl (decide_eq_false (by simpa using c2)) | exact Or.inr (decide_eq_false (by simpa using c7))
      refine lv_iconst (v := (0 : Int32)) hx hb dX0_inRange_14 (by decide) ?_
      exact g_zret M hr hlk (by first | rfl | exact bI_nar _) hR hS (by omega) (by omega) dX0_inRange_15 (⟨by rw [e]; rfl, rfl⟩)
    · have e : fIn v a b = true := by unfold fIn; rw [Bool.and_eq_true]; exact ⟨decide_eq_true (Int32.not_lt.mp c2), decide_eq_true (Int32.not_lt.mp c7)⟩
      refine lv_iconst (v := (1 : Int32)) hx hb dX0_inRange_10 (by decide) ?_
      refine lv_goto (tgt := 15) hx hb dX0_inRange_11 (by decide) ?_
      exact g_zret M hr hlk (by first | rfl | exact bI_nar _) hR hS (by omega) (by omega) dX0_inRange_15 (⟨by rw [e]; rfl, rfl⟩)

theorem md_X0_isWord : gMd yX0_isWord 1 := by
  unfold gMd
  decide +kernel
set_option maxHeartbeats 4000000 in
set_option maxRecDepth 100000 in
theorem c_X0_isWord (l : Launch) (K : gK) {G : gG} (w : Int32) : Met l yX0_isWord (ws_ yX0_isWord cX0_isWord 1 (Option.some Jvm.ClassFile.FieldType.boolean)) (gRm 1 0 0 22) (gPre K [.int w] G) (gQi K (fun r G1 => r = bI (fIn w 0 15) ∧ G1 = G)) 0 0 (gA K) := by
  refine g_met (by decide) (Nat.le_of_ble_eq_true rfl) ?_
  intro p e s m below meth c M hr hlk hnm hR ls hl
  have M : gM K p s m _ c cX0_isWord 1 RX0 := M
  have hx := M.hx
  have hb := M.hb
  have hS : va_S (gA K) s.heap s.heap [] := va_S.rf
  have hl : lv_has ls 1 [(0, .int w)] := hl
  refine lv_iload_n hx hb dX0_isWord_0 rfl (lv_at hl 0 rfl) ?_
  refine lv_iconst (v := (0 : Int32)) hx hb dX0_isWord_1 (by decide) ?_
  refine lv_bipush (v := (15 : Int32)) hx hb dX0_isWord_2 (by decide) ?_
  refine g_ki (g_S (As := [_, _, _]) M hR hS (c_X0_inRange l K _ _ _) (lw_S q265 q266 q60 q267) 3 md_X0_inRange ⟨rfl, rfl⟩ ⟨Nat.le_of_ble_eq_true rfl, Nat.le_of_ble_eq_true rfl⟩ rfl hl.1 rfl (lv_room (Nat.le_of_ble_eq_true rfl)) dX0_isWord_4 ⟨(by first | exact Nat.le_refl _ | exact Nat.zero_le _ | (dsimp only; omega)), (by first | exact Nat.le_refl _ | exact Nat.zero_le _ | (dsimp only; omega))⟩) hS (fun r4 G4 H locs hp4 hR hS => ?_)
  obtain ⟨rfl, e0⟩ := hp4
  rw [e0] at hR
  exact g_zret M hr hlk (by first | rfl | exact bI_nar _) hR hS (by omega) (by omega) dX0_isWord_7 (⟨rfl, rfl⟩)

theorem md_X0_inRealRange : gMd yX0_inRealRange 3 := by
  unfold gMd
  decide +kernel
set_option maxHeartbeats 4000000 in
set_option maxRecDepth 100000 in
theorem c_X0_inRealRange (l : Launch) (K : gK) {G : gG} (v lo hi : UInt32) : Met l yX0_inRealRange (ws_ yX0_inRealRange cX0_inRealRange 3 (Option.some Jvm.ClassFile.FieldType.boolean)) (gRm 0 0 0 0) (gPre K [.float v, .float lo, .float hi] G) (gQi K (fun r G1 => r = bI (fRng v lo hi) ∧ G1 = G)) 0 0 (gA K) := by
  refine g_met (by decide) (Nat.le_of_ble_eq_true rfl) ?_
  intro p e s m below meth c M hr hlk hnm hR ls hl
  have M : gM K p s m _ c cX0_inRealRange 3 RX0 := M
  have hx := M.hx
  have hb := M.hb
  have hS : va_S (gA K) s.heap s.heap [] := va_S.rf
  have hl : lv_has ls 3 [(0, .float v), (1, .float lo), (2, .float hi)] := hl
  refine lv_fload_n hx hb dX0_inRealRange_0 rfl (lv_at hl 0 rfl) ?_
  refine lv_fload_n hx hb dX0_inRealRange_1 rfl (lv_at hl 1 rfl) ?_
  refine lv_fcmp hx hb dX0_inRealRange_2 ?_
  refine lv_if_lt (tgt := 16) hx hb dX0_inRealRange_3 (by decide) (fun c3 => ?_) (fun c3 => ?_)
  · refine lv_iconst (v := (0 : Int32)) hx hb dX0_inRealRange_16 (by decide) ?_
    exact g_zret M hr hlk (by first | rfl | exact bI_nar _) hR hS (by omega) (by omega) dX0_inRealRange_17 (⟨by unfold fRng; rw [decide_eq_false (not_not_intro c3)]; rfl, rfl⟩)
  · refine lv_fload_n hx hb dX0_inRealRange_6 rfl (lv_at hl 0 rfl) ?_
    refine lv_fload_n hx hb dX0_inRealRange_7 rfl (lv_at hl 2 rfl) ?_
    refine lv_fcmp hx hb dX0_inRealRange_8 ?_
    refine lv_if_gt (tgt := 16) hx hb dX0_inRealRange_9 (by decide) (fun c9 => ?_) (fun c9 => ?_)
    · refine lv_iconst (v := (0 : Int32)) hx hb dX0_inRealRange_16 (by decide) ?_
      exact g_zret M hr hlk (by first | rfl | exact bI_nar _) hR hS (by omega) (by omega) dX0_inRealRange_17 (⟨by unfold fRng; rw [decide_eq_false (not_not_intro c9), Bool.and_false]; rfl, rfl⟩)
    · refine lv_iconst (v := (1 : Int32)) hx hb dX0_inRealRange_12 (by decide) ?_
      refine lv_goto (tgt := 17) hx hb dX0_inRealRange_13 (by decide) ?_
      exact g_zret M hr hlk (by first | rfl | exact bI_nar _) hR hS (by omega) (by omega) dX0_inRealRange_17 (⟨by unfold fRng; rw [decide_eq_true c3, decide_eq_true c9]; rfl, rfl⟩)

theorem md_X0_size : gMd yX0_size 1 := by
  unfold gMd
  decide +kernel
set_option maxHeartbeats 4000000 in
set_option maxRecDepth 100000 in
theorem c_X0_size (l : Launch) (K : gK) {G : gG} (v : UInt32) : Met l yX0_size (ws_ yX0_size cX0_size 1 (Option.some Jvm.ClassFile.FieldType.float)) (gRm 0 0 0 0) (gPre K [.float v] G) (gQf K (fun r G1 => r = fAb v ∧ G1 = G)) 0 0 (gA K) := by
  refine g_met (by decide) (Nat.le_of_ble_eq_true rfl) ?_
  intro p e s m below meth c M hr hlk hnm hR ls hl
  have M : gM K p s m _ c cX0_size 1 RX0 := M
  have hx := M.hx
  have hb := M.hb
  have hS : va_S (gA K) s.heap s.heap [] := va_S.rf
  have hl : lv_has ls 1 [(0, .float v)] := hl
  refine lv_fload_n hx hb dX0_size_0 rfl (lv_at hl 0 rfl) ?_
  refine lv_fconst0 hx hb dX0_size_1 ?_
  refine lv_fcmp hx hb dX0_size_2 ?_
  refine lv_if_ge (tgt := 11) hx hb dX0_size_3 (by decide) (fun c3 => ?_) (fun c3 => ?_)
  · refine lv_fload_n hx hb dX0_size_11 rfl (lv_at hl 0 rfl) ?_
    exact g_fret M hr hlk hR hS (by omega) (by omega) dX0_size_12 (⟨(if_neg (Int32.not_lt.mpr c3)).symm, rfl⟩)
  · refine lv_fload_n hx hb dX0_size_6 rfl (lv_at hl 0 rfl) ?_
    refine lv_fneg hx hb dX0_size_7 ?_
    refine lv_goto (tgt := 12) hx hb dX0_size_8 (by decide) ?_
    exact g_fret M hr hlk hR hS (by omega) (by omega) dX0_size_12 (⟨(if_pos (Int32.not_le.mp c3)).symm, rfl⟩)

theorem md_X0_nothing : gMd yX0_nothing 0 := by
  unfold gMd
  decide +kernel
set_option maxHeartbeats 4000000 in
set_option maxRecDepth 100000 in
theorem c_X0_nothing (l : Launch) (K : gK) {G : gG} : Met l yX0_nothing (ws_ yX0_nothing cX0_nothing 0 (Option.some Jvm.ClassFile.FieldType.float)) (gRm 0 0 0 0) (gPre K [] G) (gQf K (fun r G1 => r = 2143289344 ∧ G1 = G)) 0 0 (gA K) := by
  refine g_met (by decide) (Nat.le_of_ble_eq_true rfl) ?_
  intro p e s m below meth c M hr hlk hnm hR ls hl
  have M : gM K p s m _ c cX0_nothing 0 RX0 := M
  have hx := M.hx
  have hb := M.hb
  have hS : va_S (gA K) s.heap s.heap [] := va_S.rf
  have hl : lv_has ls 0 [] := hl
  refine lv_ldcf hx hb M.hown (M.hts _ q909) dX0_nothing_0 ?_
  exact g_fret M hr hlk hR hS (by omega) (by omega) dX0_nothing_2 (⟨rfl, rfl⟩)

theorem md_X0_isThere : gMd yX0_isThere 1 := by
  unfold gMd
  decide +kernel
set_option maxHeartbeats 4000000 in
set_option maxRecDepth 100000 in
theorem c_X0_isThere (l : Launch) (K : gK) {G : gG} (z : Option UInt32) {V9 : Nat} (hz : ∀ v, z = some v → fB v V9) : Met l yX0_isThere (ws_ yX0_isThere cX0_isThere 1 (Option.some Jvm.ClassFile.FieldType.boolean)) (gRm 0 0 0 0) (gPre K [.float (oF z)] G) (gQi K (fun r G1 => r = bI z.isSome ∧ G1 = G)) 0 0 (gA K) := by
  refine g_met (by decide) (Nat.le_of_ble_eq_true rfl) ?_
  intro p e s m below meth c M hr hlk hnm hR ls hl
  have M : gM K p s m _ c cX0_isThere 1 RX0 := M
  have hx := M.hx
  have hb := M.hb
  have hS : va_S (gA K) s.heap s.heap [] := va_S.rf
  have hl : lv_has ls 1 [(0, .float (oF z))] := hl
  refine lv_fload_n hx hb dX0_isThere_0 rfl (lv_at hl 0 rfl) ?_
  refine lv_fload_n hx hb dX0_isThere_1 rfl (lv_at hl 0 rfl) ?_
  refine lv_fcmp hx hb dX0_isThere_2 ?_
  refine lv_if_ne (tgt := 10) hx hb dX0_isThere_3 (by decide) (fun c3 => ?_) (fun c3 => ?_)
  · refine lv_iconst (v := (0 : Int32)) hx hb dX0_isThere_10 (by decide) ?_
    exact g_zret M hr hlk (by first | rfl | exact bI_nar _) hR hS (by omega) (by omega) dX0_isThere_11 (⟨by cases z with | none => rfl | some v => exact absurd (there_1 (hz v rfl)) c3, rfl⟩)
  · refine lv_iconst (v := (1 : Int32)) hx hb dX0_isThere_6 (by decide) ?_
    refine lv_goto (tgt := 11) hx hb dX0_isThere_7 (by decide) ?_
    exact g_zret M hr hlk (by first | rfl | exact bI_nar _) hR hS (by omega) (by omega) dX0_isThere_11 (⟨by cases z with | none => exact absurd c3 there_0 | some v => rfl, rfl⟩)

theorem md_X0_isReal : gMd yX0_isReal 1 := by
  unfold gMd
  decide +kernel
set_option maxHeartbeats 4000000 in
set_option maxRecDepth 100000 in
theorem c_X0_isReal (l : Launch) (K : gK) {G : gG} (b : Int32) : Met l yX0_isReal (ws_ yX0_isReal cX0_isReal 1 (Option.some Jvm.ClassFile.FieldType.boolean)) (gRm 0 0 0 0) (gPre K [.int b] G) (gQi K (fun r G1 => r = bI (fRe b) ∧ G1 = G)) 0 0 (gA K) := by
  refine g_met (by decide) (Nat.le_of_ble_eq_true rfl) ?_
  intro p e s m below meth c M hr hlk hnm hR ls hl
  have M : gM K p s m _ c cX0_isReal 1 RX0 := M
  have hx := M.hx
  have hb := M.hb
  have hS : va_S (gA K) s.heap s.heap [] := va_S.rf
  have hl : lv_has ls 1 [(0, .int b)] := hl
  refine lv_iload_n hx hb dX0_isReal_0 rfl (lv_at hl 0 rfl) ?_
  refine lv_ldc hx hb M.hown (M.hts _ q424) dX0_isReal_1 ?_
  refine lv_iand hx hb dX0_isReal_3 ?_
  refine lv_ldc hx hb M.hown (M.hts _ q425) dX0_isReal_4 ?_
  refine lv_icmp_gt (tgt := 13) hx hb dX0_isReal_6 (by decide) (fun c6 => ?_) (fun c6 => ?_)
  · refine lv_iconst (v := (0 : Int32)) hx hb dX0_isReal_13 (by decide) ?_
    exact g_zret M hr hlk (by first | rfl | exact bI_nar _) hR hS (by omega) (by omega) dX0_isReal_14 (⟨by unfold fRe; rw [decide_eq_false (Int32.not_le.mpr c6)]; rfl, rfl⟩)
  · refine lv_iconst (v := (1 : Int32)) hx hb dX0_isReal_9 (by decide) ?_
    refine lv_goto (tgt := 14) hx hb dX0_isReal_10 (by decide) ?_
    exact g_zret M hr hlk (by first | rfl | exact bI_nar _) hR hS (by omega) (by omega) dX0_isReal_14 (⟨by unfold fRe; rw [decide_eq_true (Int32.not_lt.mp c6)]; rfl, rfl⟩)

theorem md_X0_isNumber : gMd yX0_isNumber 1 := by
  unfold gMd
  decide +kernel
set_option maxHeartbeats 4000000 in
set_option maxRecDepth 100000 in
theorem c_X0_isNumber (l : Launch) (K : gK) {G : gG} (b : Int32) : Met l yX0_isNumber (ws_ yX0_isNumber cX0_isNumber 1 (Option.some Jvm.ClassFile.FieldType.boolean)) (gRm 1 0 0 60) (gPre K [.int b] G) (gQi K (fun r G1 => r = bI (fFrom b 3296329728 1148846080) ∧ G1 = G)) 0 0 (gA K) := by
  refine g_met (by decide) (Nat.le_of_ble_eq_true rfl) ?_
  intro p e s m below meth c M hr hlk hnm hR ls hl
  have M : gM K p s m _ c cX0_isNumber 1 RX0 := M
  have hx := M.hx
  have hb := M.hb
  have hS : va_S (gA K) s.heap s.heap [] := va_S.rf
  have hl : lv_has ls 1 [(0, .int b)] := hl
  refine lv_iload_n hx hb dX0_isNumber_0 rfl (lv_at hl 0 rfl) ?_
  refine g_ki (g_S (As := [_]) M hR hS (c_X0_isReal l K _) (lw_S q421 q422 q60 q423) 1 md_X0_isReal ⟨rfl, rfl⟩ ⟨Nat.le_of_ble_eq_true rfl, Nat.le_of_ble_eq_true rfl⟩ rfl hl.1 rfl (lv_room (Nat.le_of_ble_eq_true rfl)) dX0_isNumber_1 ⟨(by first | exact Nat.le_refl _ | exact Nat.zero_le _ | (dsimp only; omega)), (by first | exact Nat.le_refl _ | exact Nat.zero_le _ | (dsimp only; omega))⟩) hS (fun r1 G1 H locs hp1 hR hS => ?_)
  obtain ⟨rfl, e0⟩ := hp1
  rw [e0] at hR
  refine lv_if_eq (tgt := 25) hx hb dX0_isNumber_4 (by decide) (fun c4 => ?_) (fun c4 => ?_)
  · refine lv_iconst (v := (0 : Int32)) hx hb dX0_isNumber_25 (by decide) ?_
    exact g_zret M hr hlk (by first | rfl | exact bI_nar _) hR hS (by omega) (by omega) dX0_isNumber_26 (⟨by unfold fFrom; rw [bI_0.mp c4]; rfl, rfl⟩)
  · refine lv_iload_n hx hb dX0_isNumber_7 rfl (lv_at hl 0 rfl) ?_
    refine g_i2f M hl.1 q426 q428 q427 q78 (sn_ok (bI_n0.mp c4)) dX0_isNumber_8 (Nat.le_of_ble_eq_true rfl) (Nat.le_of_ble_eq_true rfl) ?_
    refine lv_ldcf hx hb M.hown (M.hts _ q451) dX0_isNumber_11 ?_
    refine lv_ldcf hx hb M.hown (M.hts _ q452) dX0_isNumber_13 ?_
    refine g_ki (g_S (As := [_, _, _]) M hR hS (c_X0_inRealRange l K _ _ _) (lw_S q430 q431 q60 q432) 3 md_X0_inRealRange ⟨rfl, rfl⟩ ⟨Nat.le_of_ble_eq_true rfl, Nat.le_of_ble_eq_true rfl⟩ rfl hl.1 rfl (lv_room (Nat.le_of_ble_eq_true rfl)) dX0_isNumber_15 ⟨(by first | exact Nat.le_refl _ | exact Nat.zero_le _ | (dsimp only; omega)), (by first | exact Nat.le_refl _ | exact Nat.zero_le _ | (dsimp only; omega))⟩) hS (fun r15 G15 H locs hp15 hR hS => ?_)
    obtain ⟨rfl, e0⟩ := hp15
    rw [e0] at hR
    refine lv_if_eq (tgt := 25) hx hb dX0_isNumber_18 (by decide) (fun c18 => ?_) (fun c18 => ?_)
    · refine lv_iconst (v := (0 : Int32)) hx hb dX0_isNumber_25 (by decide) ?_
      exact g_zret M hr hlk (by first | rfl | exact bI_nar _) hR hS (by omega) (by omega) dX0_isNumber_26 (⟨by unfold fFrom; rw [bI_0.mp c18, Bool.and_false]; rfl, rfl⟩)
    · refine lv_iconst (v := (1 : Int32)) hx hb dX0_isNumber_21 (by decide) ?_
      refine lv_goto (tgt := 26) hx hb dX0_isNumber_22 (by decide) ?_
      exact g_zret M hr hlk (by first | rfl | exact bI_nar _) hR hS (by omega) (by omega) dX0_isNumber_26 (⟨by unfold fFrom; rw [bI_n0.mp c4, bI_n0.mp c18]; rfl, rfl⟩)

theorem md_X0_isStrength : gMd yX0_isStrength 1 := by
  unfold gMd
  decide +kernel
set_option maxHeartbeats 4000000 in
set_option maxRecDepth 100000 in
theorem c_X0_isStrength (l : Launch) (K : gK) {G : gG} (b : Int32) : Met l yX0_isStrength (ws_ yX0_isStrength cX0_isStrength 1 (Option.some Jvm.ClassFile.FieldType.boolean)) (gRm 1 0 0 60) (gPre K [.int b] G) (gQi K (fun r G1 => r = bI (fFrom b 1036831949 1092616192) ∧ G1 = G)) 0 0 (gA K) := by
  refine g_met (by decide) (Nat.le_of_ble_eq_true rfl) ?_
  intro p e s m below meth c M hr hlk hnm hR ls hl
  have M : gM K p s m _ c cX0_isStrength 1 RX0 := M
  have hx := M.hx
  have hb := M.hb
  have hS : va_S (gA K) s.heap s.heap [] := va_S.rf
  have hl : lv_has ls 1 [(0, .int b)] := hl
  refine lv_iload_n hx hb dX0_isStrength_0 rfl (lv_at hl 0 rfl) ?_
  refine g_ki (g_S (As := [_]) M hR hS (c_X0_isReal l K _) (lw_S q421 q422 q60 q423) 1 md_X0_isReal ⟨rfl, rfl⟩ ⟨Nat.le_of_ble_eq_true rfl, Nat.le_of_ble_eq_true rfl⟩ rfl hl.1 rfl (lv_room (Nat.le_of_ble_eq_true rfl)) dX0_isStrength_1 ⟨(by first | exact Nat.le_refl _ | exact Nat.zero_le _ | (dsimp only; omega)), (by first | exact Nat.le_refl _ | exact Nat.zero_le _ | (dsimp only; omega))⟩) hS (fun r1 G1 H locs hp1 hR hS => ?_)
  obtain ⟨rfl, e0⟩ := hp1
  rw [e0] at hR
  refine lv_if_eq (tgt := 25) hx hb dX0_isStrength_4 (by decide) (fun c4 => ?_) (fun c4 => ?_)
  · refine lv_iconst (v := (0 : Int32)) hx hb dX0_isStrength_25 (by decide) ?_
    exact g_zret M hr hlk (by first | rfl | exact bI_nar _) hR hS (by omega) (by omega) dX0_isStrength_26 (⟨by unfold fFrom; rw [bI_0.mp c4]; rfl, rfl⟩)
  · refine lv_iload_n hx hb dX0_isStrength_7 rfl (lv_at hl 0 rfl) ?_
    refine g_i2f M hl.1 q426 q428 q427 q78 (sn_ok (bI_n0.mp c4)) dX0_isStrength_8 (Nat.le_of_ble_eq_true rfl) (Nat.le_of_ble_eq_true rfl) ?_
    refine lv_ldcf hx hb M.hown (M.hts _ q456) dX0_isStrength_11 ?_
    refine lv_ldcf hx hb M.hown (M.hts _ q457) dX0_isStrength_13 ?_
    refine g_ki (g_S (As := [_, _, _]) M hR hS (c_X0_inRealRange l K _ _ _) (lw_S q430 q431 q60 q432) 3 md_X0_inRealRange ⟨rfl, rfl⟩ ⟨Nat.le_of_ble_eq_true rfl, Nat.le_of_ble_eq_true rfl⟩ rfl hl.1 rfl (lv_room (Nat.le_of_ble_eq_true rfl)) dX0_isStrength_15 ⟨(by first | exact Nat.le_refl _ | exact Nat.zero_le _ | (dsimp only; omega)), (by first | exact Nat.le_refl _ | exact Nat.zero_le _ | (dsimp only; omega))⟩) hS (fun r15 G15 H locs hp15 hR hS => ?_)
    obtain ⟨rfl, e0⟩ := hp15
    rw [e0] at hR
    refine lv_if_eq (tgt := 25) hx hb dX0_isStrength_18 (by decide) (fun c18 => ?_) (fun c18 => ?_)
    · refine lv_iconst (v := (0 : Int32)) hx hb dX0_isStrength_25 (by decide) ?_
      exact g_zret M hr hlk (by first | rfl | exact bI_nar _) hR hS (by omega) (by omega) dX0_isStrength_26 (⟨by unfold fFrom; rw [bI_0.mp c18, Bool.and_false]; rfl, rfl⟩)
    · refine lv_iconst (v := (1 : Int32)) hx hb dX0_isStrength_21 (by decide) ?_
      refine lv_goto (tgt := 26) hx hb dX0_isStrength_22 (by decide) ?_
      exact g_zret M hr hlk (by first | rfl | exact bI_nar _) hR hS (by omega) (by omega) dX0_isStrength_26 (⟨by unfold fFrom; rw [bI_n0.mp c4, bI_n0.mp c18]; rfl, rfl⟩)

theorem md_X1_isPerson : gMd yX1_isPerson 1 := by
  unfold gMd
  decide +kernel
set_option maxHeartbeats 4000000 in
set_option maxRecDepth 100000 in
theorem c_X1_isPerson (l : Launch) (K : gK) {G : gG} {a ra lo lt : Nat} {x y : Nat → Nat} {F E : Nat → Int32} {N : Nat} (h : sR K G a ra lo lt x y F E N) (v : Int32) : Met l yX1_isPerson (ws_ yX1_isPerson cX1_isPerson 2 (Option.some Jvm.ClassFile.FieldType.boolean)) (gRm 1 0 0 22) (gPre K [.ref a, .int v] G) (gQi K (fun r G1 => r = bI (fIn v 0 (F 0 - 1)) ∧ G1 = G)) 0 0 (gA K) := by
  refine g_met (by decide) (Nat.le_of_ble_eq_true rfl) ?_
  intro p e s m below meth c M hr hlk hnm hR ls hl
  have M : gM K p s m _ c cX1_isPerson 2 RX1 := M
  have hx := M.hx
  have hb := M.hb
  have hS : va_S (gA K) s.heap s.heap [] := va_S.rf
  have hl : lv_has ls 2 [(0, .ref a), (1, .int v)] := hl
  refine lv_iload_n hx hb dX1_isPerson_0 rfl (lv_at hl 1 rfl) ?_
  refine lv_iconst (v := (0 : Int32)) hx hb dX1_isPerson_1 (by decide) ?_
  refine lv_aload_n hx hb dX1_isPerson_2 rfl (lv_at hl 0 rfl) ?_
  refine g_get (C := RX1) (T := TX1) (N := 6) M hR h.obj rfl in_X1 4 (by decide) q197 (fun x h => h) rfl dX1_isPerson_3 ?_
  refine lv_iconst (v := (1 : Int32)) hx hb dX1_isPerson_6 (by decide) ?_
  refine lv_isub hx hb dX1_isPerson_7 ?_
  refine g_ki (g_SN (As := [_, _, _]) M hR hS (c_X0_inRange l K _ _ _) q267 q60 q416 q266 3 md_X0_inRange ⟨rfl, rfl⟩ ⟨Nat.le_of_ble_eq_true rfl, Nat.le_of_ble_eq_true rfl⟩ rfl hl.1 rfl (lv_room (Nat.le_of_ble_eq_true rfl)) dX1_isPerson_8 ⟨(by first | exact Nat.le_refl _ | exact Nat.zero_le _ | (dsimp only; omega)), (by first | exact Nat.le_refl _ | exact Nat.zero_le _ | (dsimp only; omega))⟩) hS (fun r8 G8 H locs hp8 hR hS => ?_)
  obtain ⟨rfl, e0⟩ := hp8
  rw [e0] at hR
  exact g_zret M hr hlk (by first | rfl | exact bI_nar _) hR hS (by omega) (by omega) dX1_isPerson_11 (⟨rfl, rfl⟩)

theorem md_X1_hanging : gMd yX1_hanging 0 := by
  unfold gMd
  decide +kernel
set_option maxHeartbeats 4000000 in
set_option maxRecDepth 100000 in
theorem c_X1_hanging (l : Launch) (K : gK) {G : gG} {a ra lo lt : Nat} {x y : Nat → Nat} {F E : Nat → Int32} {N : Nat} (h : sR K G a ra lo lt x y F E N) (hm : ∀ o, o < N → fo F o 6 = 0 ∨ fo F o 6 = 1) : Met l yX1_hanging (ws_ yX1_hanging cX1_hanging 3 (Option.some Jvm.ClassFile.FieldType.int)) (gRm 4 0 0 124) (gPre K [.ref a] G) (gQi K (fun r G1 => r = fAll F N ∧ G1 = G)) 0 0 (gA K) := by
  refine g_met (by decide) (Nat.le_of_ble_eq_true rfl) ?_
  intro p e s m below meth c M hr hlk hnm hR ls hl
  have M : gM K p s m _ c cX1_hanging 3 RX1 := M
  have hx := M.hx
  have hb := M.hb
  have hS : va_S (gA K) s.heap s.heap [] := va_S.rf
  have hl : lv_has ls 3 [(0, .ref a)] := hl
  refine lv_iconst (v := (0 : Int32)) hx hb dX1_hanging_0 (by decide) ?_
  refine lv_istore_n (lv' := [(1, _), (0, _)]) hx hb dX1_hanging_1 rfl hl (by decide) rfl (fun ls hl => ?_)
  refine lv_iconst (v := (0 : Int32)) hx hb dX1_hanging_2 (by decide) ?_
  refine lv_istore_n (lv' := [(2, _), (1, _), (0, _)]) hx hb dX1_hanging_3 rfl hl (by decide) rfl (fun ls hl => ?_)
  refine g_loop (pc := 4) (fun (k : Nat) (ls : Array Slot) (G9 : gG) (cells slots : Nat) => ∃ j, lv_has ls 3 [(2, .int (nI j)), (1, .int (nI (fHn F N j))), (0, .ref a)] ∧ j ≤ 16 ∧ k = 16 - j ∧ G = G9 ∧ cells = 0 ∧ slots = 0) ?_ (16) ⟨0, lv_sub hl [0, 1, 2] rfl, by omega, rfl, rfl, rfl, rfl⟩ hR hS
  intro k ls G9 H locs cells slots hI hR hS ih4
  obtain ⟨j, hl, hj, rfl, rfl, rfl, rfl⟩ := hI
  refine lv_iload_n hx hb dX1_hanging_4 rfl (lv_at hl 0 rfl) ?_
  refine lv_bipush (v := (16 : Int32)) hx hb dX1_hanging_5 (by decide) ?_
  refine lv_icmp_ge (tgt := 37) hx hb dX1_hanging_7 (by decide) (fun c7 => ?_) (fun c7 => ?_)
  · refine lv_iload_n hx hb dX1_hanging_37 rfl (lv_at hl 1 rfl) ?_
    exact g_iret M hr hlk hR hS (by omega) (by omega) dX1_hanging_38 (⟨by rw [all_cnt N hm, ← hn_cnt N h.word, eq_of_ge (n := 16) c7 hj (by decide)], rfl⟩)
  · have hj2 : j < 16 := lt_of_not (n := 16) c7 (by omega)
    refine lv_iload_n hx hb dX1_hanging_10 rfl (lv_at hl 1 rfl) ?_
    refine lv_aload_n hx hb dX1_hanging_11 rfl (lv_at hl 2 rfl) ?_
    refine g_get (C := RX1) (T := TX1) (N := 6) M hR h.obj rfl in_X1 2 (by decide) q193 (fun x h => h) rfl dX1_hanging_12 ?_
    refine lv_iload_n hx hb dX1_hanging_15 rfl (lv_at hl 0 rfl) ?_
    refine g_k5q (g_F (As := [_]) (ci := 8) M hR hS (c_getX l K h.stacks j hj2) rfl (by decide) q285 q288 q290 q64 q292 1 md_i_J2_get ⟨rfl, rfl⟩ ⟨Nat.le_of_ble_eq_true rfl, Nat.le_of_ble_eq_true rfl⟩ (hR.recvL M h.stacks) rfl hl.1 rfl (lv_room (Nat.le_of_ble_eq_true rfl)) dX1_hanging_16 ⟨(by first | exact Nat.le_refl _ | exact Nat.zero_le _ | (dsimp only; omega)), (by first | exact Nat.le_refl _ | exact Nat.zero_le _ | (dsimp only; omega))⟩) hS (fun r16 G16 H locs hp16 hR hS => ?_)
    obtain ⟨rfl, e16⟩ := hp16
    rw [e16] at hR
    refine l_cast M hR (h.stack j hj2) q385 dX1_hanging_21 ?_
    refine g_k5i (g_F (As := []) (ci := 8) M hR hS (c_sizeS l K (h.stack j hj2)) rfl (by decide) q276 q279 q281 q64 q283 0 md_i_J2_size ⟨rfl, rfl⟩ ⟨Nat.le_of_ble_eq_true rfl, Nat.le_of_ble_eq_true rfl⟩ (hR.recvL M (h.stack j hj2)) rfl hl.1 rfl (lv_room (Nat.le_of_ble_eq_true rfl)) dX1_hanging_24 ⟨(by first | exact Nat.le_refl _ | exact Nat.zero_le _ | (dsimp only; omega)), (by first | exact Nat.le_refl _ | exact Nat.zero_le _ | (dsimp only; omega))⟩) hS (fun r24 G24 H locs hp24 hR hS => ?_)
    obtain ⟨rfl, e24⟩ := hp24
    rw [e24] at hR
    refine lv_iadd hx hb dX1_hanging_29 ?_
    refine g_topi (nI (fHn F N (j + 1))) (nI_add _ _) ?_
    refine lv_istore_n (lv' := [(1, _), (2, _), (0, _)]) hx hb dX1_hanging_30 rfl hl (by decide) rfl (fun ls hl => ?_)
    refine g_inc (lv' := [(2, _), (1, _), (0, _)]) M dX1_hanging_31 hl (k := 1) rfl (by decide) rfl (fun ls hl => ?_)
    refine lv_goto (tgt := 4) hx hb dX1_hanging_34 (by decide) ?_
    exact ih4 (16 - (j + 1)) _ _ _ _ _ _ (by omega) ⟨j + 1, lv_sub hl [0, 1, 2] rfl, by omega, rfl, rfl, rfl, rfl⟩ hR hS

theorem md_X1_isFull : gMd yX1_isFull 0 := by
  unfold gMd
  decide +kernel
set_option maxHeartbeats 4000000 in
set_option maxRecDepth 100000 in
theorem c_X1_isFull (l : Launch) (K : gK) {G : gG} {a ra lo lt : Nat} {x y : Nat → Nat} {F E : Nat → Int32} {N : Nat} (h : sR K G a ra lo lt x y F E N) (hm : ∀ o, o < N → fo F o 6 = 0 ∨ fo F o 6 = 1) : Met l yX1_isFull (ws_ yX1_isFull cX1_isFull 1 (Option.some Jvm.ClassFile.FieldType.boolean)) (gRm 5 0 0 146) (gPre K [.ref a] G) (gQi K (fun r G1 => r = bI (decide (fAll F N = 24 ∨ nI N = 40)) ∧ G1 = G)) 0 0 (gA K) := by
  refine g_met (by decide) (Nat.le_of_ble_eq_true rfl) ?_
  intro p e s m below meth c M hr hlk hnm hR ls hl
  have M : gM K p s m _ c cX1_isFull 1 RX1 := M
  have hx := M.hx
  have hb := M.hb
  have hS : va_S (gA K) s.heap s.heap [] := va_S.rf
  have hl : lv_has ls 1 [(0, .ref a)] := hl
  refine lv_aload_n hx hb dX1_isFull_0 rfl (lv_at hl 0 rfl) ?_
  refine g_ki (g_V (As := []) M hR hS (c_X1_hanging l K h hm) (lw_V q462 q463 q464 q61 q465) 0 md_X1_hanging rfl ⟨rfl, rfl⟩ ⟨Nat.le_of_ble_eq_true rfl, Nat.le_of_ble_eq_true rfl⟩ (hR.recv M h.obj rfl) rfl hl.1 rfl (lv_room (Nat.le_of_ble_eq_true rfl)) dX1_isFull_1 ⟨(by first | exact Nat.le_refl _ | exact Nat.zero_le _ | (dsimp only; omega)), (by first | exact Nat.le_refl _ | exact Nat.zero_le _ | (dsimp only; omega))⟩) hS (fun r1 G1 H locs hp1 hR hS => ?_)
  obtain ⟨rfl, e1⟩ := hp1
  rw [e1] at hR
  refine lv_bipush (v := (24 : Int32)) hx hb dX1_isFull_4 (by decide) ?_
  refine lv_icmp_eq (tgt := 23) hx hb dX1_isFull_6 (by decide) (fun c6 => ?_) (fun c6 => ?_)
  · refine lv_iconst (v := (1 : Int32)) hx hb dX1_isFull_23 (by decide) ?_
    refine lv_goto (tgt := 28) hx hb dX1_isFull_24 (by decide) ?_
    exact g_zret M hr hlk (by first | rfl | exact bI_nar _) hR hS (by omega) (by omega) dX1_isFull_28 (⟨by rw [decide_eq_true (Or.inl c6)]; rfl, rfl⟩)
  · refine lv_aload_n hx hb dX1_isFull_9 rfl (lv_at hl 0 rfl) ?_
    refine g_get (C := RX1) (T := TX1) (N := 6) M hR h.obj rfl in_X1 1 (by decide) q191 (fun x h => h) rfl dX1_isFull_10 ?_
    refine g_k5i (g_F (As := []) (ci := 8) M hR hS (c_sizeX l K h.orders) rfl (by decide) q276 q279 q281 q64 q283 0 md_i_J2_size ⟨rfl, rfl⟩ ⟨Nat.le_of_ble_eq_true rfl, Nat.le_of_ble_eq_true rfl⟩ (hR.recvL M h.orders) rfl hl.1 rfl (lv_room (Nat.le_of_ble_eq_true rfl)) dX1_isFull_13 ⟨(by first | exact Nat.le_refl _ | exact Nat.zero_le _ | (dsimp only; omega)), (by first | exact Nat.le_refl _ | exact Nat.zero_le _ | (dsimp only; omega))⟩) hS (fun r13 G13 H locs hp13 hR hS => ?_)
    obtain ⟨rfl, e13⟩ := hp13
    rw [e13] at hR
    refine lv_bipush (v := (40 : Int32)) hx hb dX1_isFull_18 (by decide) ?_
    refine lv_icmp_ne (tgt := 27) hx hb dX1_isFull_20 (by decide) (fun c20 => ?_) (fun c20 => ?_)
    · refine lv_iconst (v := (0 : Int32)) hx hb dX1_isFull_27 (by decide) ?_
      exact g_zret M hr hlk (by first | rfl | exact bI_nar _) hR hS (by omega) (by omega) dX1_isFull_28 (⟨by rw [decide_eq_false (fun z => z.elim c6 c20)]; rfl, rfl⟩)
    · refine lv_iconst (v := (1 : Int32)) hx hb dX1_isFull_23 (by decide) ?_
      refine lv_goto (tgt := 28) hx hb dX1_isFull_24 (by decide) ?_
      exact g_zret M hr hlk (by first | rfl | exact bI_nar _) hR hS (by omega) (by omega) dX1_isFull_28 (⟨by rw [decide_eq_true (Or.inr c20)]; rfl, rfl⟩)

theorem md_X1_over : gMd yX1_over 1 := by
  unfold gMd
  decide +kernel
set_option maxHeartbeats 4000000 in
set_option maxRecDepth 100000 in
theorem c_X1_over (l : Launch) (K : gK) {G : gG} {a ra lo lt : Nat} {x y : Nat → Nat} {F E : Nat → Int32} {N : Nat} (h : sR K G a ra lo lt x y F E N) {o w : Nat} (ho : o < N) (hh : fHg F o = true) (hw : fo F o 1 = nI w) (hw16 : w < 16)  : Met l yX1_over (ws_ yX1_over cX1_over 3 (Option.some Jvm.ClassFile.FieldType.int)) (gRm 4 0 0 124) (gPre K [.ref a, .ref (x o)] G) (gQi K (fun r G1 => r = nI ((fStk F (nI w) N).length - 1 - fCnt (fHf F (nI w)) 0 o) ∧ G1 = G)) 0 0 (gA K) := by
  refine g_met (by decide) (Nat.le_of_ble_eq_true rfl) ?_
  intro p e s m below meth c M hr hlk hnm hR ls hl
  have M : gM K p s m _ c cX1_over 3 RX1 := M
  have hx := M.hx
  have hb := M.hb
  have hS : va_S (gA K) s.heap s.heap [] := va_S.rf
  have hl : lv_has ls 3 [(0, .ref a), (1, .ref (x o))] := hl
  have hf : fHf F (nI w) o = true := by unfold fHf; rw [hh, hw, decide_eq_true rfl]; rfl
  have hat := stk_at hf ho
  obtain ⟨hpl, hpe⟩ := List.getElem?_eq_some_iff.mp hat
  obtain ⟨ci9, fs9, he9, h34⟩ := oE_ob (F := F) (E := E) (o := o)
  have h40 := h.n40
  have hlen := stk_len F (nI w) N
  have hcl := fCnt_le (fHf F (nI w)) 0 N
  refine lv_aload_n hx hb dX1_over_0 rfl (lv_at hl 0 rfl) ?_
  refine g_get (C := RX1) (T := TX1) (N := 6) M hR h.obj rfl in_X1 2 (by decide) q193 (fun x h => h) rfl dX1_over_1 ?_
  refine lv_aload_n hx hb dX1_over_4 rfl (lv_at hl 1 rfl) ?_
  refine o_get2 M hR (h.order o ho) q335 dX1_over_5 ?_
  refine g_topi (nI w) hw ?_
  refine g_k5q (g_F (As := [_]) (ci := 8) M hR hS (c_getX l K h.stacks w hw16) rfl (by decide) q285 q288 q290 q64 q292 1 md_i_J2_get ⟨rfl, rfl⟩ ⟨Nat.le_of_ble_eq_true rfl, Nat.le_of_ble_eq_true rfl⟩ (hR.recvL M h.stacks) rfl hl.1 rfl (lv_room (Nat.le_of_ble_eq_true rfl)) dX1_over_8 ⟨(by first | exact Nat.le_refl _ | exact Nat.zero_le _ | (dsimp only; omega)), (by first | exact Nat.le_refl _ | exact Nat.zero_le _ | (dsimp only; omega))⟩) hS (fun r8 G8 H locs hp8 hR hS => ?_)
  obtain ⟨rfl, e8⟩ := hp8
  rw [e8] at hR
  refine l_cast M hR (h.stack w hw16) q385 dX1_over_13 ?_
  refine lv_astore_n (lv' := [(2, _), (0, _), (1, _)]) hx hb dX1_over_16 rfl hl (by decide) rfl (fun ls hl => ?_)
  refine lv_aload_n hx hb dX1_over_17 rfl (lv_at hl 0 rfl) ?_
  refine g_k5i (g_F (As := []) (ci := 8) M hR hS (c_sizeS l K (h.stack w hw16)) rfl (by decide) q276 q279 q281 q64 q283 0 md_i_J2_size ⟨rfl, rfl⟩ ⟨Nat.le_of_ble_eq_true rfl, Nat.le_of_ble_eq_true rfl⟩ (hR.recvL M (h.stack w hw16)) rfl hl.1 rfl (lv_room (Nat.le_of_ble_eq_true rfl)) dX1_over_18 ⟨(by first | exact Nat.le_refl _ | exact Nat.zero_le _ | (dsimp only; omega)), (by first | exact Nat.le_refl _ | exact Nat.zero_le _ | (dsimp only; omega))⟩) hS (fun r18 G18 H locs hp18 hR hS => ?_)
  obtain ⟨rfl, e18⟩ := hp18
  rw [e18] at hR
  refine lv_iconst (v := (1 : Int32)) hx hb dX1_over_23 (by decide) ?_
  refine lv_isub hx hb dX1_over_24 ?_
  refine g_topi (nI ((fStk F (nI w) N).length - 1)) (sub_1 (by omega)) ?_
  refine lv_aload_n hx hb dX1_over_25 rfl (lv_at hl 0 rfl) ?_
  refine lv_aload_n hx hb dX1_over_26 rfl (lv_at hl 2 rfl) ?_
  refine g_k5i (g_F (As := [_]) (ci := 8) M hR hS (c_J2_indexOf l K (h.stack w hw16) ((h.order o ho).trans (congrArg (fun z => some (Sum.inl z)) he9)) h34 (fCnt (fHf F (nI w)) 0 o) (by rw [List.length_map]; exact hpl) (by rw [List.getElem_map, hpe]) (fun i hi e => by rw [List.getElem_map] at e; have hi2 : i < (fStk F (nI w) N).length := (by omega); have e2 := h.xi _ _ (stk_lt (List.getElem_mem hi2)).1 ho e; have e3 := stk_inj hi2 hpl (e2.trans hpe.symm); omega)) rfl (by decide) q558 q561 q563 q64 q565 1 md_i_J2_indexOf ⟨rfl, rfl⟩ ⟨Nat.le_of_ble_eq_true rfl, Nat.le_of_ble_eq_true rfl⟩ (hR.recvL M (h.stack w hw16)) rfl hl.1 rfl (lv_room (Nat.le_of_ble_eq_true rfl)) dX1_over_27 ⟨(by first | exact Nat.le_refl _ | exact Nat.zero_le _ | (dsimp only; omega)), (by first | exact Nat.le_refl _ | exact Nat.zero_le _ | (dsimp only; omega))⟩) hS (fun r27 G27 H locs hp27 hR hS => ?_)
  obtain ⟨rfl, e27⟩ := hp27
  rw [e27] at hR
  refine lv_isub hx hb dX1_over_32 ?_
  refine g_topi (nI ((fStk F (nI w) N).length - 1 - fCnt (fHf F (nI w)) 0 o)) (sub_nI (by omega)) ?_
  exact g_iret M hr hlk hR hS (by omega) (by omega) dX1_over_33 (⟨rfl, rfl⟩)

theorem md_X1_rankOf : gMd yX1_rankOf 1 := by
  unfold gMd
  decide +kernel
set_option maxHeartbeats 4000000 in
set_option maxRecDepth 100000 in
theorem c_X1_rankOf (l : Launch) (K : gK) {G : gG} {a ra lo lt : Nat} {x y : Nat → Nat} {F E : Nat → Int32} {N : Nat} (h : sR K G a ra lo lt x y F E N) {o : Nat} (ho : o < N) : Met l yX1_rankOf (ws_ yX1_rankOf cX1_rankOf 2 (Option.some Jvm.ClassFile.FieldType.int)) (gRm 0 0 0 0) (gPre K [.ref a, .ref (x o)] G) (gQi K (fun r G1 => r = fRk F o ∧ G1 = G)) 0 0 (gA K) := by
  refine g_met (by decide) (Nat.le_of_ble_eq_true rfl) ?_
  intro p e s m below meth c M hr hlk hnm hR ls hl
  have M : gM K p s m _ c cX1_rankOf 2 RX1 := M
  have hx := M.hx
  have hb := M.hb
  have hS : va_S (gA K) s.heap s.heap [] := va_S.rf
  have hl : lv_has ls 2 [(0, .ref a), (1, .ref (x o))] := hl
  obtain ⟨rf, hrf, hrv⟩ := h.ranks
  obtain ⟨p9, hp9, hp0⟩ := h.who o ho
  refine lv_aload_n hx hb dX1_rankOf_0 rfl (lv_at hl 0 rfl) ?_
  refine g_get (C := RX1) (T := TX1) (N := 6) M hR h.obj rfl in_X1 0 (by decide) q189 (fun x h => h) rfl dX1_rankOf_1 ?_
  refine lv_aload_n hx hb dX1_rankOf_4 rfl (lv_at hl 1 rfl) ?_
  refine o_get1 M hR (h.order o ho) q330 dX1_rankOf_5 ?_
  refine g_ild M hR hrf p9 hp0 hp9 (by decide) dX1_rankOf_8 ?_
  exact g_iret M hr hlk hR hS (by omega) (by omega) dX1_rankOf_9 (⟨(hrv p9 hp9).trans (rk_of hp0 hp9).symm, rfl⟩)

theorem md_X1_ruler : gMd yX1_ruler 1 := by
  unfold gMd
  decide +kernel
set_option maxHeartbeats 4000000 in
set_option maxRecDepth 100000 in
theorem c_X1_ruler (l : Launch) (K : gK) {G : gG} {a ra lo lt : Nat} {x y : Nat → Nat} {F E : Nat → Int32} {N : Nat} (h : sR K G a ra lo lt x y F E N) {w : Nat} (hw16 : w < 16) : Met l yX1_ruler (ws_ yX1_ruler cX1_ruler 5 (Option.some (Jvm.ClassFile.FieldType.object "NailedOrders$Order"))) (gRm 4 0 0 124) (gPre K [.ref a, .int (nI w)] G) (gQq K (fun r G1 => r = (fRul F (nI w) N).map x ∧ G1 = G)) 0 0 (gA K) := by
  refine g_met (by decide) (Nat.le_of_ble_eq_true rfl) ?_
  intro p e s m below meth c M hr hlk hnm hR ls hl
  have M : gM K p s m _ c cX1_ruler 5 RX1 := M
  have hx := M.hx
  have hb := M.hb
  have hS : va_S (gA K) s.heap s.heap [] := va_S.rf
  have hl : lv_has ls 5 [(0, .ref a), (1, .int (nI w))] := hl
  have h40 := h.n40
  have hlen := stk_len F (nI w) N
  have hcl := fCnt_le (fHf F (nI w)) 0 N
  refine lv_null hx hb dX1_ruler_0 ?_
  refine lv_astore_nN (lv' := [(2, _), (0, _), (1, _)]) hx hb dX1_ruler_1 rfl hl (by decide) rfl (fun ls hl => ?_)
  refine lv_aload_n hx hb dX1_ruler_2 rfl (lv_at hl 1 rfl) ?_
  refine g_get (C := RX1) (T := TX1) (N := 6) M hR h.obj rfl in_X1 2 (by decide) q193 (fun x h => h) rfl dX1_ruler_3 ?_
  refine lv_iload_n hx hb dX1_ruler_6 rfl (lv_at hl 2 rfl) ?_
  refine g_k5q (g_F (As := [_]) (ci := 8) M hR hS (c_getX l K h.stacks w hw16) rfl (by decide) q285 q288 q290 q64 q292 1 md_i_J2_get ⟨rfl, rfl⟩ ⟨Nat.le_of_ble_eq_true rfl, Nat.le_of_ble_eq_true rfl⟩ (hR.recvL M h.stacks) rfl hl.1 rfl (lv_room (Nat.le_of_ble_eq_true rfl)) dX1_ruler_7 ⟨(by first | exact Nat.le_refl _ | exact Nat.zero_le _ | (dsimp only; omega)), (by first | exact Nat.le_refl _ | exact Nat.zero_le _ | (dsimp only; omega))⟩) hS (fun r7 G7 H locs hp7 hR hS => ?_)
  obtain ⟨rfl, e7⟩ := hp7
  rw [e7] at hR
  refine l_cast M hR (h.stack w hw16) q385 dX1_ruler_12 ?_
  refine lv_astore_n (lv' := [(3, _), (2, _), (0, _), (1, _)]) hx hb dX1_ruler_15 rfl hl (by decide) rfl (fun ls hl => ?_)
  refine lv_iconst (v := (0 : Int32)) hx hb dX1_ruler_16 (by decide) ?_
  refine lv_istore (lv' := [(4, _), (3, _), (2, _), (0, _), (1, _)]) hx hb dX1_ruler_17 hl (by decide) rfl (fun ls hl => ?_)
  refine g_loop (pc := 19) (fun (k : Nat) (ls : Array Slot) (G9 : gG) (cells slots : Nat) => ∃ j, lv_has ls 5 [(4, .int (nI j)), (3, .ref (y w)), (2, va_rf ((fRs F ((fStk F (nI w) N).take j) none).map x)), (1, .int (nI w)), (0, .ref a)] ∧ j ≤ (fStk F (nI w) N).length ∧ k = (fStk F (nI w) N).length - j ∧ G = G9 ∧ cells = 0 ∧ slots = 0) ?_ ((fStk F (nI w) N).length) ⟨0, lv_sub hl [0, 1, 2, 4, 3] rfl, Nat.zero_le _, rfl, rfl, rfl, rfl⟩ hR hS
  intro k ls G9 H locs cells slots hI hR hS ih19
  obtain ⟨j, hl, hj, rfl, rfl, rfl, rfl⟩ := hI
  refine lv_iload hx hb dX1_ruler_19 (lv_at hl 0 rfl) ?_
  refine lv_aload_n hx hb dX1_ruler_21 rfl (lv_at hl 1 rfl) ?_
  refine g_k5i (g_F (As := []) (ci := 8) M hR hS (c_sizeS l K (h.stack w hw16)) rfl (by decide) q276 q279 q281 q64 q283 0 md_i_J2_size ⟨rfl, rfl⟩ ⟨Nat.le_of_ble_eq_true rfl, Nat.le_of_ble_eq_true rfl⟩ (hR.recvL M (h.stack w hw16)) rfl hl.1 rfl (lv_room (Nat.le_of_ble_eq_true rfl)) dX1_ruler_22 ⟨(by first | exact Nat.le_refl _ | exact Nat.zero_le _ | (dsimp only; omega)), (by first | exact Nat.le_refl _ | exact Nat.zero_le _ | (dsimp only; omega))⟩) hS (fun r22 G22 H locs hp22 hR hS => ?_)
  obtain ⟨rfl, e22⟩ := hp22
  rw [e22] at hR
  refine lv_icmp_ge (tgt := 75) hx hb dX1_ruler_27 (by decide) (fun c27 => ?_) (fun c27 => ?_)
  · cases hbs : fRs F ((fStk F (nI w) N).take j) none with
    | none =>
      rw [hbs] at hl
      have hl : lv_has ls 5 [(4, .int (nI j)), (3, .ref (y w)), (2, .null), (1, .int (nI w)), (0, .ref a)] := hl
      refine lv_aload_nN hx hb dX1_ruler_75 rfl (lv_at hl 2 rfl) ?_
      exact g_qret M hr (Or.inl ⟨_, rfl⟩) hlk none rfl hR hS (by omega) (by omega) dX1_ruler_76 (⟨by have hj9 := eq_of_ge c27 hj (by omega); rw [rul_stk, ← List.take_length (l := fStk F (nI w) N), ← hj9, hbs]; rfl, rfl⟩)
    | some b9 =>
      rw [hbs] at hl
      have hl : lv_has ls 5 [(4, .int (nI j)), (3, .ref (y w)), (2, .ref (x b9)), (1, .int (nI w)), (0, .ref a)] := hl
      refine lv_aload_n hx hb dX1_ruler_75 rfl (lv_at hl 2 rfl) ?_
      exact g_qret M hr (Or.inl ⟨_, rfl⟩) hlk (some _) rfl hR hS (by omega) (by omega) dX1_ruler_76 (⟨by have hj9 := eq_of_ge c27 hj (by omega); rw [rul_stk, ← List.take_length (l := fStk F (nI w) N), ← hj9, hbs]; rfl, rfl⟩)
  · cases hbs : fRs F ((fStk F (nI w) N).take j) none with
    | none =>
      rw [hbs] at hl
      have hl : lv_has ls 5 [(4, .int (nI j)), (3, .ref (y w)), (2, .null), (1, .int (nI w)), (0, .ref a)] := hl
      have hjl : j < (fStk F (nI w) N).length := lt_of_not c27 (by omega)
      have hoj := (stk_lt (List.getElem_mem hjl)).1
      refine lv_aload_nN hx hb dX1_ruler_30 rfl (lv_at hl 2 rfl) ?_
      refine lv_ifnullN (tgt := 57) hx hb dX1_ruler_31 (by decide) ?_
      refine lv_aload_n hx hb dX1_ruler_57 rfl (lv_at hl 1 rfl) ?_
      refine lv_iload hx hb dX1_ruler_58 (lv_at hl 0 rfl) ?_
      refine g_k5q (g_F (As := [_]) (ci := 8) M hR hS (c_getS l K (h.stack w hw16) j hjl) rfl (by decide) q285 q288 q290 q64 q292 1 md_i_J2_get ⟨rfl, rfl⟩ ⟨Nat.le_of_ble_eq_true rfl, Nat.le_of_ble_eq_true rfl⟩ (hR.recvL M (h.stack w hw16)) rfl hl.1 rfl (lv_room (Nat.le_of_ble_eq_true rfl)) dX1_ruler_60 ⟨(by first | exact Nat.le_refl _ | exact Nat.zero_le _ | (dsimp only; omega)), (by first | exact Nat.le_refl _ | exact Nat.zero_le _ | (dsimp only; omega))⟩) hS (fun r60 G60 H locs hp60 hR hS => ?_)
      obtain ⟨rfl, e60⟩ := hp60
      rw [e60] at hR
      refine o_cast M hR (h.order _ hoj) q303 dX1_ruler_65 ?_
      refine lv_astore_n (lv' := [(2, _), (4, _), (3, _), (1, _), (0, _)]) hx hb dX1_ruler_68 rfl hl (by decide) rfl (fun ls hl => ?_)
      have hbn : fRs F ((fStk F (nI w) N).take (j + 1)) none = some (fStk F (nI w) N)[j] := by rw [fRs_take hjl, hbs]; rfl
      refine g_inc (lv' := [(4, _), (2, _), (3, _), (1, _), (0, _)]) M dX1_ruler_69 hl (k := 1) rfl (by decide) rfl (fun ls hl => ?_)
      refine lv_goto (tgt := 19) hx hb dX1_ruler_72 (by decide) ?_
      exact ih19 ((fStk F (nI w) N).length - (j + 1)) _ _ _ _ _ _ (by omega) ⟨j + 1, (by rw [hbn]; exact lv_sub hl [0, 2, 1, 3, 4] rfl), by omega, by omega, rfl, rfl, rfl⟩ hR hS
    | some b9 =>
      rw [hbs] at hl
      have hl : lv_has ls 5 [(4, .int (nI j)), (3, .ref (y w)), (2, .ref (x b9)), (1, .int (nI w)), (0, .ref a)] := hl
      have hbN : b9 < N := by rcases fRs_mem hbs with z | z; exact (stk_lt (List.mem_of_mem_take z)).1; cases z
      have hjl : j < (fStk F (nI w) N).length := lt_of_not c27 (by omega)
      have hoj := (stk_lt (List.getElem_mem hjl)).1
      refine lv_aload_n hx hb dX1_ruler_30 rfl (lv_at hl 2 rfl) ?_
      refine lv_ifnull hx hb dX1_ruler_31 ?_
      refine lv_aload_n hx hb dX1_ruler_34 rfl (lv_at hl 4 rfl) ?_
      refine lv_aload_n hx hb dX1_ruler_35 rfl (lv_at hl 1 rfl) ?_
      refine lv_iload hx hb dX1_ruler_36 (lv_at hl 0 rfl) ?_
      refine g_k5q (g_F (As := [_]) (ci := 8) M hR hS (c_getS l K (h.stack w hw16) j hjl) rfl (by decide) q285 q288 q290 q64 q292 1 md_i_J2_get ⟨rfl, rfl⟩ ⟨Nat.le_of_ble_eq_true rfl, Nat.le_of_ble_eq_true rfl⟩ (hR.recvL M (h.stack w hw16)) rfl hl.1 rfl (lv_room (Nat.le_of_ble_eq_true rfl)) dX1_ruler_38 ⟨(by first | exact Nat.le_refl _ | exact Nat.zero_le _ | (dsimp only; omega)), (by first | exact Nat.le_refl _ | exact Nat.zero_le _ | (dsimp only; omega))⟩) hS (fun r38 G38 H locs hp38 hR hS => ?_)
      obtain ⟨rfl, e38⟩ := hp38
      rw [e38] at hR
      refine o_cast M hR (h.order _ hoj) q303 dX1_ruler_43 ?_
      refine g_ki (g_V (As := [_]) M hR hS (c_X1_rankOf l K h hoj) (lw_V q902 q903 q904 q61 q905) 1 md_X1_rankOf rfl ⟨rfl, rfl⟩ ⟨Nat.le_of_ble_eq_true rfl, Nat.le_of_ble_eq_true rfl⟩ (hR.recv M h.obj rfl) rfl hl.1 rfl (lv_room (Nat.le_of_ble_eq_true rfl)) dX1_ruler_46 ⟨(by first | exact Nat.le_refl _ | exact Nat.zero_le _ | (dsimp only; omega)), (by first | exact Nat.le_refl _ | exact Nat.zero_le _ | (dsimp only; omega))⟩) hS (fun r46 G46 H locs hp46 hR hS => ?_)
      obtain ⟨rfl, e46⟩ := hp46
      rw [e46] at hR
      refine lv_aload_n hx hb dX1_ruler_49 rfl (lv_at hl 4 rfl) ?_
      refine lv_aload_n hx hb dX1_ruler_50 rfl (lv_at hl 2 rfl) ?_
      refine g_ki (g_V (As := [_]) M hR hS (c_X1_rankOf l K h hbN) (lw_V q902 q903 q904 q61 q905) 1 md_X1_rankOf rfl ⟨rfl, rfl⟩ ⟨Nat.le_of_ble_eq_true rfl, Nat.le_of_ble_eq_true rfl⟩ (hR.recv M h.obj rfl) rfl hl.1 rfl (lv_room (Nat.le_of_ble_eq_true rfl)) dX1_ruler_51 ⟨(by first | exact Nat.le_refl _ | exact Nat.zero_le _ | (dsimp only; omega)), (by first | exact Nat.le_refl _ | exact Nat.zero_le _ | (dsimp only; omega))⟩) hS (fun r51 G51 H locs hp51 hR hS => ?_)
      obtain ⟨rfl, e51⟩ := hp51
      rw [e51] at hR
      refine lv_icmp_lt (tgt := 69) hx hb dX1_ruler_54 (by decide) (fun c54 => ?_) (fun c54 => ?_)
      · have hbn : fRs F ((fStk F (nI w) N).take (j + 1)) none = some b9 := by rw [fRs_take hjl, hbs]; exact if_neg (by show ¬ decide (¬ fRk F _ < fRk F b9) = true; rw [decide_eq_false (not_not_intro c54)]; decide)
        refine g_inc (lv' := [(4, _), (3, _), (2, _), (1, _), (0, _)]) M dX1_ruler_69 hl (k := 0) rfl (by decide) rfl (fun ls hl => ?_)
        refine lv_goto (tgt := 19) hx hb dX1_ruler_72 (by decide) ?_
        exact ih19 ((fStk F (nI w) N).length - (j + 1)) _ _ _ _ _ _ (by omega) ⟨j + 1, (by rw [hbn]; exact lv_sub hl [0, 1, 2, 3, 4] rfl), by omega, by omega, rfl, rfl, rfl⟩ hR hS
      · refine lv_aload_n hx hb dX1_ruler_57 rfl (lv_at hl 1 rfl) ?_
        refine lv_iload hx hb dX1_ruler_58 (lv_at hl 0 rfl) ?_
        refine g_k5q (g_F (As := [_]) (ci := 8) M hR hS (c_getS l K (h.stack w hw16) j hjl) rfl (by decide) q285 q288 q290 q64 q292 1 md_i_J2_get ⟨rfl, rfl⟩ ⟨Nat.le_of_ble_eq_true rfl, Nat.le_of_ble_eq_true rfl⟩ (hR.recvL M (h.stack w hw16)) rfl hl.1 rfl (lv_room (Nat.le_of_ble_eq_true rfl)) dX1_ruler_60 ⟨(by first | exact Nat.le_refl _ | exact Nat.zero_le _ | (dsimp only; omega)), (by first | exact Nat.le_refl _ | exact Nat.zero_le _ | (dsimp only; omega))⟩) hS (fun r60 G60 H locs hp60 hR hS => ?_)
        obtain ⟨rfl, e60⟩ := hp60
        rw [e60] at hR
        refine o_cast M hR (h.order _ hoj) q303 dX1_ruler_65 ?_
        refine lv_astore_n (lv' := [(2, _), (4, _), (3, _), (1, _), (0, _)]) hx hb dX1_ruler_68 rfl hl (by decide) rfl (fun ls hl => ?_)
        have hbn : fRs F ((fStk F (nI w) N).take (j + 1)) none = some (fStk F (nI w) N)[j] := by rw [fRs_take hjl, hbs]; exact if_pos (by unfold fBt; exact decide_eq_true c54)
        refine g_inc (lv' := [(4, _), (2, _), (3, _), (1, _), (0, _)]) M dX1_ruler_69 hl (k := 1) rfl (by decide) rfl (fun ls hl => ?_)
        refine lv_goto (tgt := 19) hx hb dX1_ruler_72 (by decide) ?_
        exact ih19 ((fStk F (nI w) N).length - (j + 1)) _ _ _ _ _ _ (by omega) ⟨j + 1, (by rw [hbn]; exact lv_sub hl [0, 2, 1, 3, 4] rfl), by omega, by omega, rfl, rfl, rfl⟩ hR hS

theorem md_X1_linked : gMd yX1_linked 1 := by
  unfold gMd
  decide +kernel
set_option maxHeartbeats 4000000 in
set_option maxRecDepth 100000 in
theorem c_X1_linked (l : Launch) (K : gK) {G : gG} {a ra lo lt : Nat} {x y : Nat → Nat} {F E : Nat → Int32} {N : Nat} (h : sR K G a ra lo lt x y F E N) {w : Nat} (hw16 : w < 16) : Met l yX1_linked (ws_ yX1_linked cX1_linked 3 (Option.some Jvm.ClassFile.FieldType.int)) (gRm 5 0 0 148) (gPre K [.ref a, .int (nI w)] G) (gQi K (fun r G1 => r = fLk F N (nI w) ∧ G1 = G)) 0 0 (gA K) := by
  refine g_met (by decide) (Nat.le_of_ble_eq_true rfl) ?_
  intro p e s m below meth c M hr hlk hnm hR ls hl
  have M : gM K p s m _ c cX1_linked 3 RX1 := M
  have hx := M.hx
  have hb := M.hb
  have hS : va_S (gA K) s.heap s.heap [] := va_S.rf
  have hl : lv_has ls 3 [(0, .ref a), (1, .int (nI w))] := hl
  refine lv_aload_n hx hb dX1_linked_0 rfl (lv_at hl 0 rfl) ?_
  refine lv_iload_n hx hb dX1_linked_1 rfl (lv_at hl 1 rfl) ?_
  refine g_kq (g_V (As := [_]) M hR hS (c_X1_ruler l K h hw16) (lw_V q898 q899 q900 q61 q901) 1 md_X1_ruler rfl ⟨rfl, rfl⟩ ⟨Nat.le_of_ble_eq_true rfl, Nat.le_of_ble_eq_true rfl⟩ (hR.recv M h.obj rfl) rfl hl.1 rfl (lv_room (Nat.le_of_ble_eq_true rfl)) dX1_linked_2 ⟨(by first | exact Nat.le_refl _ | exact Nat.zero_le _ | (dsimp only; omega)), (by first | exact Nat.le_refl _ | exact Nat.zero_le _ | (dsimp only; omega))⟩) hS (fun r2 G2 H locs hp2 hR hS => ?_)
  obtain ⟨rfl, e2⟩ := hp2
  rw [e2] at hR
  cases hr5 : fRul F (nI w) N with
  | none =>
    refine lv_astore_nN (lv' := [(2, _), (0, _), (1, _)]) hx hb dX1_linked_5 rfl hl (by decide) rfl (fun ls hl => ?_)
    refine lv_aload_nN hx hb dX1_linked_6 rfl (lv_at hl 0 rfl) ?_
    refine lv_ifnonnullN hx hb dX1_linked_7 ?_
    refine lv_bipush (v := ((-5) : Int32)) hx hb dX1_linked_10 (by decide) ?_
    refine lv_goto (tgt := 19) hx hb dX1_linked_12 (by decide) ?_
    exact g_iret M hr hlk hR hS (by omega) (by omega) dX1_linked_19 (⟨(fLk_n hr5).symm, rfl⟩)
  | some r9 =>
    have hr9 := fRul_lt hr5
    refine lv_astore_n (lv' := [(2, _), (0, _), (1, _)]) hx hb dX1_linked_5 rfl hl (by decide) rfl (fun ls hl => ?_)
    refine lv_aload_n hx hb dX1_linked_6 rfl (lv_at hl 0 rfl) ?_
    refine lv_ifnonnull (tgt := 15) hx hb dX1_linked_7 (by decide) ?_
    refine lv_aload_n hx hb dX1_linked_15 rfl (lv_at hl 0 rfl) ?_
    refine o_other M hR hS (h.order r9 hr9)  q914 hl.1 dX1_linked_16 (Nat.le_of_ble_eq_true rfl) (Nat.le_of_ble_eq_true rfl) ⟨(by first | exact Nat.le_refl _ | exact Nat.zero_le _ | (dsimp only; omega)), (by first | exact Nat.le_refl _ | exact Nat.zero_le _ | (dsimp only; omega))⟩ (Nat.le_of_ble_eq_true rfl) (fun H locs hR hS => ?_)
    exact g_iret M hr hlk hR hS (by omega) (by omega) dX1_linked_19 (⟨(fLk_r hr5).symm, rfl⟩)

theorem md_X1_links : gMd yX1_links 1 := by
  unfold gMd
  decide +kernel
set_option maxHeartbeats 4000000 in
set_option maxRecDepth 100000 in
theorem c_X1_links (l : Launch) (K : gK) {G : gG} {a ra lo lt : Nat} {x y : Nat → Nat} {F E : Nat → Int32} {N : Nat} (h : sR K G a ra lo lt x y F E N) {P : Nat} (ok : fOk F P N) {w : Nat} (hw16 : w < 16) : Met l yX1_links (ws_ yX1_links cX1_links 4 (Option.some Jvm.ClassFile.FieldType.int)) (gRm 6 0 0 170) (gPre K [.ref a, .int (nI w)] G) (gQi K (fun r G1 => r = oI (fLy F N 17 (nI w)) ∧ G1 = G)) 0 0 (gA K) := by
  refine g_met (by decide) (Nat.le_of_ble_eq_true rfl) ?_
  intro p e s m below meth c M hr hlk hnm hR ls hl
  have M : gM K p s m _ c cX1_links 4 RX1 := M
  have hx := M.hx
  have hb := M.hb
  have hS : va_S (gA K) s.heap s.heap [] := va_S.rf
  have hl : lv_has ls 4 [(0, .ref a), (1, .int (nI w))] := hl
  refine lv_iconst (v := (0 : Int32)) hx hb dX1_links_0 (by decide) ?_
  refine lv_istore_n (lv' := [(2, _), (0, _), (1, _)]) hx hb dX1_links_1 rfl hl (by decide) rfl (fun ls hl => ?_)
  refine lv_aload_n hx hb dX1_links_2 rfl (lv_at hl 1 rfl) ?_
  refine lv_iload_n hx hb dX1_links_3 rfl (lv_at hl 2 rfl) ?_
  refine g_ki (g_V (As := [_]) M hR hS (c_X1_linked l K h hw16) (lw_V q974 q975 q976 q61 q977) 1 md_X1_linked rfl ⟨rfl, rfl⟩ ⟨Nat.le_of_ble_eq_true rfl, Nat.le_of_ble_eq_true rfl⟩ (hR.recv M h.obj rfl) rfl hl.1 rfl (lv_room (Nat.le_of_ble_eq_true rfl)) dX1_links_4 ⟨(by first | exact Nat.le_refl _ | exact Nat.zero_le _ | (dsimp only; omega)), (by first | exact Nat.le_refl _ | exact Nat.zero_le _ | (dsimp only; omega))⟩) hS (fun r4 G4 H locs hp4 hR hS => ?_)
  obtain ⟨rfl, e4⟩ := hp4
  rw [e4] at hR
  refine lv_istore_n (lv' := [(3, _), (2, _), (0, _), (1, _)]) hx hb dX1_links_7 rfl hl (by decide) rfl (fun ls hl => ?_)
  refine g_loop (pc := 8) (fun (k : Nat) (ls : Array Slot) (G9 : gG) (cells slots : Nat) => ∃ j, lv_has ls 4 [(3, .int (fIt F N (nI w) (j + 1))), (2, .int (nI j)), (0, .ref a)] ∧ j ≤ 16 ∧ k = 17 - j ∧ fLy F N 17 (nI w) = (fLy F N (17 - j) (fIt F N (nI w) j)).map (· + j) ∧ G = G9 ∧ cells = 0 ∧ slots = 0) ?_ (17) ⟨0, lv_sub hl [0, 1, 2] rfl, by omega, rfl, (by show fLy F N 17 (nI w) = Option.map (fun x => x + 0) (fLy F N 17 (nI w)); cases fLy F N 17 (nI w) <;> rfl), rfl, rfl, rfl⟩ hR hS
  intro k ls G9 H locs cells slots hI hR hS ih8
  obtain ⟨j, hl, hj, rfl, he, rfl, rfl, rfl⟩ := hI
  refine lv_iload_n hx hb dX1_links_8 rfl (lv_at hl 0 rfl) ?_
  refine lv_bipush (v := ((-5) : Int32)) hx hb dX1_links_9 (by decide) ?_
  refine lv_icmp_eq (tgt := 35) hx hb dX1_links_11 (by decide) (fun c11 => ?_) (fun c11 => ?_)
  · have hz : fLy F N 17 (nI w) = some j := (fLy_at (by omega) he).1 c11
    refine lv_iload_n hx hb dX1_links_35 rfl (lv_at hl 1 rfl) ?_
    exact g_iret M hr hlk hR hS (by omega) (by omega) dX1_links_36 (⟨by rw [hz]; rfl, rfl⟩)
  · have hj17 : j < 17 := by omega
    have hk5 : fLk F N (fIt F N (nI w) j) ≠ -5 := c11
    obtain ⟨u, hu, hue⟩ := (lk_w ok (fIt F N (nI w) j)).resolve_left hk5
    have hue2 : fIt F N (nI w) (j + 1) = nI u := hue
    rw [hue2] at hl
    refine g_inc (lv' := [(2, _), (3, _), (0, _)]) M dX1_links_14 hl (k := 1) rfl (by decide) rfl (fun ls hl => ?_)
    refine lv_iload_n hx hb dX1_links_17 rfl (lv_at hl 0 rfl) ?_
    refine lv_bipush (v := (16 : Int32)) hx hb dX1_links_18 (by decide) ?_
    refine lv_icmp_le (tgt := 26) hx hb dX1_links_20 (by decide) (fun c20 => ?_) (fun c20 => ?_)
    · have hj16 : j + 1 ≤ 16 := (nI_leI (by omega) (by decide : 16 < 2 ^ 31)).mp c20
      refine lv_aload_n hx hb dX1_links_26 rfl (lv_at hl 2 rfl) ?_
      refine lv_iload_n hx hb dX1_links_27 rfl (lv_at hl 1 rfl) ?_
      refine g_ki (g_V (As := [_]) M hR hS (c_X1_linked l K h hu) (lw_V q974 q975 q976 q61 q977) 1 md_X1_linked rfl ⟨rfl, rfl⟩ ⟨Nat.le_of_ble_eq_true rfl, Nat.le_of_ble_eq_true rfl⟩ (hR.recv M h.obj rfl) rfl hl.1 rfl (lv_room (Nat.le_of_ble_eq_true rfl)) dX1_links_28 ⟨(by first | exact Nat.le_refl _ | exact Nat.zero_le _ | (dsimp only; omega)), (by first | exact Nat.le_refl _ | exact Nat.zero_le _ | (dsimp only; omega))⟩) hS (fun r28 G28 H locs hp28 hR hS => ?_)
      obtain ⟨rfl, e28⟩ := hp28
      rw [e28] at hR
      refine g_topi (fIt F N (nI w) (j + 1 + 1)) (by rw [fIt_s (j + 1), hue2]) ?_
      refine lv_istore_n (lv' := [(3, _), (2, _), (0, _)]) hx hb dX1_links_31 rfl hl (by decide) rfl (fun ls hl => ?_)
      refine lv_goto (tgt := 8) hx hb dX1_links_32 (by decide) ?_
      exact ih8 (17 - (j + 1)) _ _ _ _ _ _ (by omega) ⟨j + 1, lv_sub hl [0, 1, 2] rfl, by omega, by omega, (fLy_at hj17 he).2 hk5, rfl, rfl, rfl⟩ hR hS
    · have hj16 : j = 16 := by have hn : ¬ j + 1 ≤ 16 := fun z => c20 (nI_le z (by decide : 16 < 2 ^ 31)); omega
      have hz : fLy F N 17 (nI w) = none := by rw [(fLy_at hj17 he).2 hk5, hj16]; rfl
      refine lv_bipush (v := ((-5) : Int32)) hx hb dX1_links_23 (by decide) ?_
      exact g_iret M hr hlk hR hS (by omega) (by omega) dX1_links_25 (⟨by rw [hz]; rfl, rfl⟩)

theorem md_X1_reached : gMd yX1_reached 1 := by
  unfold gMd
  decide +kernel
set_option maxHeartbeats 4000000 in
set_option maxRecDepth 100000 in
theorem c_X1_reached (l : Launch) (K : gK) {G : gG} {a ra lo lt : Nat} {x y : Nat → Nat} {F E : Nat → Int32} {N : Nat} (h : sR K G a ra lo lt x y F E N) {P : Nat} (ok : fOk F P N) {w : Nat} (hw16 : w < 16) : Met l yX1_reached (ws_ yX1_reached cX1_reached 4 (Option.some Jvm.ClassFile.FieldType.int)) (gRm 6 0 0 170) (gPre K [.ref a, .int (nI w)] G) (gQi K (fun r G1 => (∃ ps : List Nat, r = nI (mS ps) ∧ (∀ u ∈ ps, u < 16) ∧ ∀ v, v < 16 → (v ∈ ps ↔ fCm F N (nI v) 16 (nI w) = true)) ∧ G1 = G)) 0 0 (gA K) := by
  refine g_met (by decide) (Nat.le_of_ble_eq_true rfl) ?_
  intro p e s m below meth c M hr hlk hnm hR ls hl
  have M : gM K p s m _ c cX1_reached 4 RX1 := M
  have hx := M.hx
  have hb := M.hb
  have hS : va_S (gA K) s.heap s.heap [] := va_S.rf
  have hl : lv_has ls 4 [(0, .ref a), (1, .int (nI w))] := hl
  refine lv_iconst (v := (0 : Int32)) hx hb dX1_reached_0 (by decide) ?_
  refine lv_istore_n (lv' := [(2, _), (0, _), (1, _)]) hx hb dX1_reached_1 rfl hl (by decide) rfl (fun ls hl => ?_)
  refine lv_aload_n hx hb dX1_reached_2 rfl (lv_at hl 1 rfl) ?_
  refine lv_iload_n hx hb dX1_reached_3 rfl (lv_at hl 2 rfl) ?_
  refine g_ki (g_V (As := [_]) M hR hS (c_X1_linked l K h hw16) (lw_V q974 q975 q976 q61 q977) 1 md_X1_linked rfl ⟨rfl, rfl⟩ ⟨Nat.le_of_ble_eq_true rfl, Nat.le_of_ble_eq_true rfl⟩ (hR.recv M h.obj rfl) rfl hl.1 rfl (lv_room (Nat.le_of_ble_eq_true rfl)) dX1_reached_4 ⟨(by first | exact Nat.le_refl _ | exact Nat.zero_le _ | (dsimp only; omega)), (by first | exact Nat.le_refl _ | exact Nat.zero_le _ | (dsimp only; omega))⟩) hS (fun r4 G4 H locs hp4 hR hS => ?_)
  obtain ⟨rfl, e4⟩ := hp4
  rw [e4] at hR
  refine lv_istore_n (lv' := [(3, _), (2, _), (0, _), (1, _)]) hx hb dX1_reached_7 rfl hl (by decide) rfl (fun ls hl => ?_)
  refine g_loop (pc := 8) (fun (k : Nat) (ls : Array Slot) (G9 : gG) (cells slots : Nat) => ∃ ps, lv_has ls 4 [(3, .int (fIt F N (nI w) (ps.length + 1))), (2, .int (nI (mS ps))), (0, .ref a)] ∧ k = 17 - ps.length ∧ (∀ v, v ∈ ps ↔ ∃ i, 1 ≤ i ∧ i ≤ ps.length ∧ fIt F N (nI w) i = nI v ∧ v < 16) ∧ (∀ i, 1 ≤ i → i ≤ ps.length → ∃ v, v < 16 ∧ fIt F N (nI w) i = nI v) ∧ ps.Nodup ∧ (∀ u ∈ ps, u < 16) ∧ G = G9 ∧ cells = 0 ∧ slots = 0) ?_ (17) ⟨[], lv_sub hl [0, 1, 2] rfl, rfl, (fun v => ⟨fun z => (by cases z), fun ⟨i, h1, h2, _⟩ => (by simp at h2; omega)⟩), (fun i h1 h2 => by simp at h2; omega), List.nodup_nil, (fun u z => (by cases z)), rfl, rfl, rfl⟩ hR hS
  intro k ls G9 H locs cells slots hI hR hS ih8
  obtain ⟨ps, hl, rfl, hv1, hv2, hnd, hps, rfl, rfl, rfl⟩ := hI
  have hle := nd_le 16 ps hnd hps
  refine lv_iload_n hx hb dX1_reached_8 rfl (lv_at hl 0 rfl) ?_
  refine lv_bipush (v := ((-5) : Int32)) hx hb dX1_reached_9 (by decide) ?_
  refine lv_icmp_eq (tgt := 37) hx hb dX1_reached_11 (by decide) (fun c11 => ?_) (fun c11 => ?_)
  · refine lv_iload_n hx hb dX1_reached_37 rfl (lv_at hl 1 rfl) ?_
    exact g_iret M hr hlk hR hS (by omega) (by omega) dX1_reached_38 (⟨⟨ps, rfl, hps, fun v hv => re_e ok hv1 hv2 hle c11 v hv⟩, rfl⟩)
  · obtain ⟨u, hu, hue⟩ := (lk_w ok (fIt F N (nI w) ps.length)).resolve_left c11
    have hue2 : fIt F N (nI w) (ps.length + 1) = nI u := hue
    rw [hue2] at hl
    refine lv_iload_n hx hb dX1_reached_14 rfl (lv_at hl 1 rfl) ?_
    refine lv_iload_n hx hb dX1_reached_15 rfl (lv_at hl 0 rfl) ?_
    refine lv_ishr hx hb dX1_reached_16 ?_
    refine lv_iconst (v := (1 : Int32)) hx hb dX1_reached_17 (by decide) ?_
    refine lv_iand hx hb dX1_reached_18 ?_
    refine g_topi (bI (decide (u ∈ ps))) (bt_t hps hu) ?_
    refine lv_if_ne (tgt := 37) hx hb dX1_reached_19 (by decide) (fun c19 => ?_) (fun c19 => ?_)
    · refine lv_iload_n hx hb dX1_reached_37 rfl (lv_at hl 1 rfl) ?_
      exact g_iret M hr hlk hR hS (by omega) (by omega) dX1_reached_38 (⟨⟨ps, rfl, hps, fun v hv => re_r ok hv1 hv2 hle (hue2.trans (by rfl)) (of_decide_eq_true (bI_n0.mp c19)) v hv⟩, rfl⟩)
    · have hnin : ¬ u ∈ ps := of_decide_eq_false (bI_0.mp c19)
      refine lv_iload_n hx hb dX1_reached_22 rfl (lv_at hl 1 rfl) ?_
      refine lv_iconst (v := (1 : Int32)) hx hb dX1_reached_23 (by decide) ?_
      refine lv_iload_n hx hb dX1_reached_24 rfl (lv_at hl 0 rfl) ?_
      refine lv_ishl hx hb dX1_reached_25 ?_
      refine lv_ior hx hb dX1_reached_26 ?_
      refine g_topi (nI (mS (u :: ps))) (bt_o hps hu) ?_
      refine lv_istore_n (lv' := [(2, _), (3, _), (0, _)]) hx hb dX1_reached_27 rfl hl (by decide) rfl (fun ls hl => ?_)
      refine lv_aload_n hx hb dX1_reached_28 rfl (lv_at hl 2 rfl) ?_
      refine lv_iload_n hx hb dX1_reached_29 rfl (lv_at hl 1 rfl) ?_
      refine g_ki (g_V (As := [_]) M hR hS (c_X1_linked l K h hu) (lw_V q974 q975 q976 q61 q977) 1 md_X1_linked rfl ⟨rfl, rfl⟩ ⟨Nat.le_of_ble_eq_true rfl, Nat.le_of_ble_eq_true rfl⟩ (hR.recv M h.obj rfl) rfl hl.1 rfl (lv_room (Nat.le_of_ble_eq_true rfl)) dX1_reached_30 ⟨(by first | exact Nat.le_refl _ | exact Nat.zero_le _ | (dsimp only; omega)), (by first | exact Nat.le_refl _ | exact Nat.zero_le _ | (dsimp only; omega))⟩) hS (fun r30 G30 H locs hp30 hR hS => ?_)
      obtain ⟨rfl, e30⟩ := hp30
      rw [e30] at hR
      refine g_topi (fIt F N (nI w) ((u :: ps).length + 1)) (by show _ = fLk F N (fIt F N (nI w) (ps.length + 1)); rw [hue2]) ?_
      have hkk : 17 - (u :: ps).length < 17 - ps.length := by have : (u :: ps).length = ps.length + 1 := rfl; omega
      refine lv_istore_n (lv' := [(3, _), (2, _), (0, _)]) hx hb dX1_reached_33 rfl hl (by decide) rfl (fun ls hl => ?_)
      refine lv_goto (tgt := 8) hx hb dX1_reached_34 (by decide) ?_
      exact ih8 (17 - (u :: ps).length) _ _ _ _ _ _ (by omega) ⟨u :: ps, lv_sub hl [0, 1, 2] rfl, rfl, re_s hv1 hue2 hu, re_t hv2 hue2 hu, List.nodup_cons.mpr ⟨hnin, hnd⟩, (fun z hz => (List.mem_cons.mp hz).elim (fun e => e ▸ hu) (hps z)), rfl, rfl, rfl⟩ hR hS

theorem md_X1_isInRing : gMd yX1_isInRing 1 := by
  unfold gMd
  decide +kernel
set_option maxHeartbeats 4000000 in
set_option maxRecDepth 100000 in
theorem c_X1_isInRing (l : Launch) (K : gK) {G : gG} {a ra lo lt : Nat} {x y : Nat → Nat} {F E : Nat → Int32} {N : Nat} (h : sR K G a ra lo lt x y F E N) {P : Nat} (ok : fOk F P N) {w : Nat} (hw16 : w < 16) : Met l yX1_isInRing (ws_ yX1_isInRing cX1_isInRing 2 (Option.some Jvm.ClassFile.FieldType.boolean)) (gRm 7 0 0 193) (gPre K [.ref a, .int (nI w)] G) (gQi K (fun r G1 => r = bI (fCm F N (nI w) 16 (nI w)) ∧ G1 = G)) 0 0 (gA K) := by
  refine g_met (by decide) (Nat.le_of_ble_eq_true rfl) ?_
  intro p e s m below meth c M hr hlk hnm hR ls hl
  have M : gM K p s m _ c cX1_isInRing 2 RX1 := M
  have hx := M.hx
  have hb := M.hb
  have hS : va_S (gA K) s.heap s.heap [] := va_S.rf
  have hl : lv_has ls 2 [(0, .ref a), (1, .int (nI w))] := hl
  refine lv_aload_n hx hb dX1_isInRing_0 rfl (lv_at hl 0 rfl) ?_
  refine lv_iload_n hx hb dX1_isInRing_1 rfl (lv_at hl 1 rfl) ?_
  refine g_ki (g_V (As := [_]) M hR hS (c_X1_reached l K h ok hw16) (lw_V q970 q971 q972 q61 q973) 1 md_X1_reached rfl ⟨rfl, rfl⟩ ⟨Nat.le_of_ble_eq_true rfl, Nat.le_of_ble_eq_true rfl⟩ (hR.recv M h.obj rfl) rfl hl.1 rfl (lv_room (Nat.le_of_ble_eq_true rfl)) dX1_isInRing_2 ⟨(by first | exact Nat.le_refl _ | exact Nat.zero_le _ | (dsimp only; omega)), (by first | exact Nat.le_refl _ | exact Nat.zero_le _ | (dsimp only; omega))⟩) hS (fun r2 G2 H locs hp2 hR hS => ?_)
  obtain ⟨⟨ps2, rfl, hps2, hpv2⟩, e2⟩ := hp2
  rw [e2] at hR
  refine lv_iload_n hx hb dX1_isInRing_5 rfl (lv_at hl 1 rfl) ?_
  refine lv_ishr hx hb dX1_isInRing_6 ?_
  refine lv_iconst (v := (1 : Int32)) hx hb dX1_isInRing_7 (by decide) ?_
  refine lv_iand hx hb dX1_isInRing_8 ?_
  refine g_topi (bI (decide (w ∈ ps2))) (bt_t hps2 hw16) ?_
  refine lv_iconst (v := (1 : Int32)) hx hb dX1_isInRing_9 (by decide) ?_
  refine lv_icmp_ne (tgt := 17) hx hb dX1_isInRing_10 (by decide) (fun c10 => ?_) (fun c10 => ?_)
  · have hq : fCm F N (nI w) 16 (nI w) = false := by rw [Bool.eq_false_iff]; intro z; exact c10 (bI_t (decide_eq_true ((hpv2 w hw16).mpr z)))
    refine lv_iconst (v := (0 : Int32)) hx hb dX1_isInRing_17 (by decide) ?_
    exact g_zret M hr hlk (by first | rfl | exact bI_nar _) hR hS (by omega) (by omega) dX1_isInRing_18 (⟨by rw [hq]; rfl, rfl⟩)
  · have hq : fCm F N (nI w) 16 (nI w) = true := (hpv2 w hw16).mp (of_decide_eq_true (bI_1.mp c10))
    refine lv_iconst (v := (1 : Int32)) hx hb dX1_isInRing_13 (by decide) ?_
    refine lv_goto (tgt := 18) hx hb dX1_isInRing_14 (by decide) ?_
    exact g_zret M hr hlk (by first | rfl | exact bI_nar _) hR hS (by omega) (by omega) dX1_isInRing_18 (⟨by rw [hq]; rfl, rfl⟩)

theorem md_X1_dependents : gMd yX1_dependents 1 := by
  unfold gMd
  decide +kernel
set_option maxHeartbeats 4000000 in
set_option maxRecDepth 100000 in
theorem c_X1_dependents (l : Launch) (K : gK) {G : gG} {a ra lo lt : Nat} {x y : Nat → Nat} {F E : Nat → Int32} {N : Nat} (h : sR K G a ra lo lt x y F E N) {P : Nat} (ok : fOk F P N) {w : Nat} (hw16 : w < 16) : Met l yX1_dependents (ws_ yX1_dependents cX1_dependents 4 (Option.some Jvm.ClassFile.FieldType.int)) (gRm 7 0 0 193) (gPre K [.ref a, .int (nI w)] G) (gQi K (fun r G1 => r = fBits (fun u => fCm F N (nI w) 16 (nI u)) nI 16 ∧ G1 = G)) 0 0 (gA K) := by
  refine g_met (by decide) (Nat.le_of_ble_eq_true rfl) ?_
  intro p e s m below meth c M hr hlk hnm hR ls hl
  have M : gM K p s m _ c cX1_dependents 4 RX1 := M
  have hx := M.hx
  have hb := M.hb
  have hS : va_S (gA K) s.heap s.heap [] := va_S.rf
  have hl : lv_has ls 4 [(0, .ref a), (1, .int (nI w))] := hl
  refine lv_iconst (v := (0 : Int32)) hx hb dX1_dependents_0 (by decide) ?_
  refine lv_istore_n (lv' := [(2, _), (0, _), (1, _)]) hx hb dX1_dependents_1 rfl hl (by decide) rfl (fun ls hl => ?_)
  refine lv_iconst (v := (0 : Int32)) hx hb dX1_dependents_2 (by decide) ?_
  refine lv_istore_n (lv' := [(3, _), (2, _), (0, _), (1, _)]) hx hb dX1_dependents_3 rfl hl (by decide) rfl (fun ls hl => ?_)
  refine g_loop (pc := 4) (fun (k : Nat) (ls : Array Slot) (G9 : gG) (cells slots : Nat) => ∃ j, lv_has ls 4 [(3, .int (nI j)), (2, .int (fBits (fun u => fCm F N (nI w) 16 (nI u)) nI j)), (1, .int (nI w)), (0, .ref a)] ∧ j ≤ 16 ∧ k = 16 - j ∧ G = G9 ∧ cells = 0 ∧ slots = 0) ?_ (16) ⟨0, lv_sub hl [0, 1, 3, 2] rfl, by omega, rfl, rfl, rfl, rfl⟩ hR hS
  intro k ls G9 H locs cells slots hI hR hS ih4
  obtain ⟨j, hl, hj, rfl, rfl, rfl, rfl⟩ := hI
  refine lv_iload_n hx hb dX1_dependents_4 rfl (lv_at hl 0 rfl) ?_
  refine lv_bipush (v := (16 : Int32)) hx hb dX1_dependents_5 (by decide) ?_
  refine lv_icmp_ge (tgt := 39) hx hb dX1_dependents_7 (by decide) (fun c7 => ?_) (fun c7 => ?_)
  · refine lv_iload_n hx hb dX1_dependents_39 rfl (lv_at hl 1 rfl) ?_
    exact g_iret M hr hlk hR hS (by omega) (by omega) dX1_dependents_40 (⟨by rw [eq_of_ge (n := 16) c7 hj (by decide)], rfl⟩)
  · have hj2 : j < 16 := lt_of_not (n := 16) c7 (by omega)
    refine lv_iload_n hx hb dX1_dependents_10 rfl (lv_at hl 1 rfl) ?_
    refine lv_aload_n hx hb dX1_dependents_11 rfl (lv_at hl 3 rfl) ?_
    refine lv_iload_n hx hb dX1_dependents_12 rfl (lv_at hl 0 rfl) ?_
    refine g_ki (g_V (As := [_]) M hR hS (c_X1_reached l K h ok hj2) (lw_V q970 q971 q972 q61 q973) 1 md_X1_reached rfl ⟨rfl, rfl⟩ ⟨Nat.le_of_ble_eq_true rfl, Nat.le_of_ble_eq_true rfl⟩ (hR.recv M h.obj rfl) rfl hl.1 rfl (lv_room (Nat.le_of_ble_eq_true rfl)) dX1_dependents_13 ⟨(by first | exact Nat.le_refl _ | exact Nat.zero_le _ | (dsimp only; omega)), (by first | exact Nat.le_refl _ | exact Nat.zero_le _ | (dsimp only; omega))⟩) hS (fun r13 G13 H locs hp13 hR hS => ?_)
    obtain ⟨⟨ps13, rfl, hps13, hpv13⟩, e13⟩ := hp13
    rw [e13] at hR
    refine lv_iload_n hx hb dX1_dependents_16 rfl (lv_at hl 2 rfl) ?_
    refine lv_ishr hx hb dX1_dependents_17 ?_
    refine lv_iconst (v := (1 : Int32)) hx hb dX1_dependents_18 (by decide) ?_
    refine lv_iand hx hb dX1_dependents_19 ?_
    refine g_topi (bI (decide (w ∈ ps13))) (bt_t hps13 hw16) ?_
    refine lv_iconst (v := (1 : Int32)) hx hb dX1_dependents_20 (by decide) ?_
    refine lv_icmp_ne (tgt := 30) hx hb dX1_dependents_21 (by decide) (fun c21 => ?_) (fun c21 => ?_)
    · refine lv_iconst (v := (0 : Int32)) hx hb dX1_dependents_30 (by decide) ?_
      refine lv_ior hx hb dX1_dependents_31 ?_
      refine g_topi (fBits (fun u => fCm F N (nI w) 16 (nI u)) nI (j + 1)) (bits_f (q := (fun u => fCm F N (nI w) 16 (nI u))) (bI_f (by rw [Bool.eq_false_iff]; intro z; exact c21 (bI_t (decide_eq_true ((hpv13 w hw16).mpr z)))))) ?_
      refine lv_istore_n (lv' := [(2, _), (3, _), (1, _), (0, _)]) hx hb dX1_dependents_32 rfl hl (by decide) rfl (fun ls hl => ?_)
      refine g_inc (lv' := [(3, _), (2, _), (1, _), (0, _)]) M dX1_dependents_33 hl (k := 1) rfl (by decide) rfl (fun ls hl => ?_)
      refine lv_goto (tgt := 4) hx hb dX1_dependents_36 (by decide) ?_
      exact ih4 (16 - (j + 1)) _ _ _ _ _ _ (by omega) ⟨j + 1, lv_sub hl [0, 1, 2, 3] rfl, by omega, rfl, rfl, rfl, rfl⟩ hR hS
    · refine lv_iconst (v := (1 : Int32)) hx hb dX1_dependents_24 (by decide) ?_
      refine lv_iload_n hx hb dX1_dependents_25 rfl (lv_at hl 0 rfl) ?_
      refine lv_ishl hx hb dX1_dependents_26 ?_
      refine lv_goto (tgt := 31) hx hb dX1_dependents_27 (by decide) ?_
      refine lv_ior hx hb dX1_dependents_31 ?_
      refine g_topi (fBits (fun u => fCm F N (nI w) 16 (nI u)) nI (j + 1)) (bits_t (q := (fun u => fCm F N (nI w) 16 (nI u))) (b := nI) ((hpv13 w hw16).mp (of_decide_eq_true (bI_1.mp c21)))) ?_
      refine lv_istore_n (lv' := [(2, _), (3, _), (1, _), (0, _)]) hx hb dX1_dependents_32 rfl hl (by decide) rfl (fun ls hl => ?_)
      refine g_inc (lv' := [(3, _), (2, _), (1, _), (0, _)]) M dX1_dependents_33 hl (k := 1) rfl (by decide) rfl (fun ls hl => ?_)
      refine lv_goto (tgt := 4) hx hb dX1_dependents_36 (by decide) ?_
      exact ih4 (16 - (j + 1)) _ _ _ _ _ _ (by omega) ⟨j + 1, lv_sub hl [0, 1, 2, 3] rfl, by omega, rfl, rfl, rfl, rfl⟩ hR hS

theorem md_X1_value_2 : gMd yX1_value_2 2 := by
  unfold gMd
  decide +kernel
theorem md_X1_valueOf : gMd yX1_valueOf 2 := by
  unfold gMd
  decide +kernel
set_option maxHeartbeats 4000000 in
set_option maxRecDepth 100000 in
theorem c_X1_valueOf (l : Launch) (K : gK) {G : gG} {a ra lo lt : Nat} {x y : Nat → Nat} {F E : Nat → Int32} {N : Nat} (h : sR K G a ra lo lt x y F E N) {P : Nat} (ok : fOk F P N) (n : Nat) (hV : vV l K G a F N n) {o : Nat} (ho : o < N) {ps : List Nat} (hl9 : ps.length + n = 17) (hnd : ps.Nodup) (hps : ∀ u ∈ ps, u < 16) : Met l yX1_valueOf (ws_ yX1_valueOf cX1_valueOf 5 (Option.some Jvm.ClassFile.FieldType.float)) (gRm (21 + 2 * n) 0 0 (325 + 50 * n)) (gPre K [.ref a, .ref (x o), .int (nI (mS ps))] G) (gQf K (fun r G1 => r = oF (cO F N n ps o) ∧ G1 = G)) 0 0 (gA K) := by
  refine g_met (by decide) (Nat.le_of_ble_eq_true rfl) ?_
  intro p e s m below meth c M hr hlk hnm hR ls hl
  have M : gM K p s m _ c cX1_valueOf 5 RX1 := M
  have hx := M.hx
  have hb := M.hb
  have hS : va_S (gA K) s.heap s.heap [] := va_S.rf
  have hl : lv_has ls 5 [(0, .ref a), (1, .ref (x o)), (2, .int (nI (mS ps)))] := hl
  refine lv_aload_n hx hb dX1_valueOf_0 rfl (lv_at hl 1 rfl) ?_
  refine o_other M hR hS (h.order o ho)  q914 hl.1 dX1_valueOf_1 (Nat.le_trans (m := 21) (Nat.le_of_ble_eq_true rfl) (Nat.le_add_right _ _)) (Nat.le_trans (m := 325) (Nat.le_of_ble_eq_true rfl) (Nat.le_add_right _ _)) ⟨(by first | exact Nat.le_refl _ | exact Nat.zero_le _ | (dsimp only; omega)), (by first | exact Nat.le_refl _ | exact Nat.zero_le _ | (dsimp only; omega))⟩ (Nat.le_of_ble_eq_true rfl) (fun H locs hR hS => ?_)
  refine lv_bipush (v := ((-5) : Int32)) hx hb dX1_valueOf_4 (by decide) ?_
  refine lv_icmp_ne (tgt := 14) hx hb dX1_valueOf_6 (by decide) (fun c6 => ?_) (fun c6 => ?_)
  · obtain ⟨u, hu, hue⟩ := (ok.link o ho).resolve_left c6
    have hz := cO_3 (N := N) (n := n) (ps := ps) c6 hue hu
    have hvb : ∀ v, cV F N n ps u = some v → fB v (1000000000 * fU) := fun v hv => cV_b ok hv
    refine lv_aload_n hx hb dX1_valueOf_14 rfl (lv_at hl 0 rfl) ?_
    refine lv_aload_n hx hb dX1_valueOf_15 rfl (lv_at hl 1 rfl) ?_
    refine o_other M hR hS (h.order o ho)  q914 hl.1 dX1_valueOf_16 (Nat.le_trans (m := 21) (Nat.le_of_ble_eq_true rfl) (Nat.le_add_right _ _)) (Nat.le_trans (m := 325) (Nat.le_of_ble_eq_true rfl) (Nat.le_add_right _ _)) ⟨(by first | exact Nat.le_refl _ | exact Nat.zero_le _ | (dsimp only; omega)), (by first | exact Nat.le_refl _ | exact Nat.zero_le _ | (dsimp only; omega))⟩ (Nat.le_of_ble_eq_true rfl) (fun H locs hR hS => ?_)
    refine g_topi (nI u) hue ?_
    refine lv_iload_n hx hb dX1_valueOf_19 rfl (lv_at hl 2 rfl) ?_
    refine g_kf (g_V (As := [_, _]) M hR hS (((fun (_ : Launch) (_ : gK) => hV ps u hl9 hnd hps hu)) l K ) (lw_V q894 q896 qs18 q61 q897) 2 md_X1_value_2 rfl ⟨rfl, rfl⟩ ⟨by show 20 + 2 * n + 1 ≤ 21 + 2 * n; omega, by show 8 + (4 + 11) + (300 + 50 * n) ≤ 325 + 50 * n; omega⟩ (hR.recv M h.obj rfl) rfl hl.1 rfl (lv_room (Nat.le_of_ble_eq_true rfl)) dX1_valueOf_20 ⟨(by first | exact Nat.le_refl _ | exact Nat.zero_le _ | (dsimp only; omega)), (by first | exact Nat.le_refl _ | exact Nat.zero_le _ | (dsimp only; omega))⟩) hS (fun r20 G20 H locs hp20 hR hS => ?_)
    obtain ⟨rfl, e20⟩ := hp20
    rw [e20] at hR
    refine lv_fstore_n (lv' := [(3, _), (0, _), (1, _), (2, _)]) hx hb dX1_valueOf_23 rfl hl (by decide) rfl (fun ls hl => ?_)
    refine lv_fload_n hx hb dX1_valueOf_24 rfl (lv_at hl 0 rfl) ?_
    refine g_ki (g_SN (As := [_]) M hR hS (c_X0_isThere l K _ hvb) q924 q60 q922 q923 1 md_X0_isThere ⟨rfl, rfl⟩ ⟨Nat.le_trans (m := 21) (Nat.le_of_ble_eq_true rfl) (Nat.le_add_right _ _), Nat.le_trans (m := 325) (Nat.le_of_ble_eq_true rfl) (Nat.le_add_right _ _)⟩ rfl hl.1 rfl (lv_room (Nat.le_of_ble_eq_true rfl)) dX1_valueOf_25 ⟨(by first | exact Nat.le_refl _ | exact Nat.zero_le _ | (dsimp only; omega)), (by first | exact Nat.le_refl _ | exact Nat.zero_le _ | (dsimp only; omega))⟩) hS (fun r25 G25 H locs hp25 hR hS => ?_)
    obtain ⟨rfl, e0⟩ := hp25
    rw [e0] at hR
    refine lv_if_ne (tgt := 35) hx hb dX1_valueOf_28 (by decide) (fun c28 => ?_) (fun c28 => ?_)
    · obtain ⟨v, hv⟩ := isS c28
      rw [hv] at hl
      have hv9 := hvb v hv
      obtain ⟨n1, n2, n3⟩ := by_ok ok ho hv9
      refine lv_fload_n hx hb dX1_valueOf_35 rfl (lv_at hl 0 rfl) ?_
      refine lv_aload_n hx hb dX1_valueOf_36 rfl (lv_at hl 2 rfl) ?_
      refine o_factor M hR hS (h.order o ho) (h.fate o ho).2.2 q925 hl.1 dX1_valueOf_37 (Nat.le_trans (m := 21) (Nat.le_of_ble_eq_true rfl) (Nat.le_add_right _ _)) (Nat.le_trans (m := 325) (Nat.le_of_ble_eq_true rfl) (Nat.le_add_right _ _)) ⟨(by first | exact Nat.le_refl _ | exact Nat.zero_le _ | (dsimp only; omega)), (by first | exact Nat.le_refl _ | exact Nat.zero_le _ | (dsimp only; omega))⟩ (Nat.le_of_ble_eq_true rfl) (fun H locs hR hS => ?_)
      refine lv_fmul hx hb dX1_valueOf_40 n1 ?_
      refine lv_aload_n hx hb dX1_valueOf_41 rfl (lv_at hl 2 rfl) ?_
      refine o_get3 M hR (h.order o ho) q340 dX1_valueOf_42 ?_
      refine lv_fadd hx hb dX1_valueOf_45 n2 ?_
      refine g_topf (fByR F o v) rfl ?_
      refine lv_fstore (lv' := [(4, _), (3, _), (0, _), (1, _), (2, _)]) hx hb dX1_valueOf_46 hl (by decide) rfl (fun ls hl => ?_)
      refine lv_fload hx hb dX1_valueOf_48 (lv_at hl 0 rfl) ?_
      refine lv_ldcf hx hb M.hown (M.hts _ q933) dX1_valueOf_50 ?_
      refine lv_ldcf hx hb M.hown (M.hts _ q934) dX1_valueOf_52 ?_
      refine g_ki (g_SN (As := [_, _, _]) M hR hS (c_X0_inRealRange l K _ _ _) q432 q60 q935 q431 3 md_X0_inRealRange ⟨rfl, rfl⟩ ⟨Nat.le_trans (m := 21) (Nat.le_of_ble_eq_true rfl) (Nat.le_add_right _ _), Nat.le_trans (m := 325) (Nat.le_of_ble_eq_true rfl) (Nat.le_add_right _ _)⟩ rfl hl.1 rfl (lv_room (Nat.le_of_ble_eq_true rfl)) dX1_valueOf_54 ⟨(by first | exact Nat.le_refl _ | exact Nat.zero_le _ | (dsimp only; omega)), (by first | exact Nat.le_refl _ | exact Nat.zero_le _ | (dsimp only; omega))⟩) hS (fun r54 G54 H locs hp54 hR hS => ?_)
      obtain ⟨rfl, e0⟩ := hp54
      rw [e0] at hR
      refine lv_if_eq (tgt := 65) hx hb dX1_valueOf_57 (by decide) (fun c57 => ?_) (fun c57 => ?_)
      · refine g_kf (g_SN (As := []) M hR hS (c_X0_nothing l K ) q908 q60 q906 q907 0 md_X0_nothing ⟨rfl, rfl⟩ ⟨Nat.le_trans (m := 21) (Nat.le_of_ble_eq_true rfl) (Nat.le_add_right _ _), Nat.le_trans (m := 325) (Nat.le_of_ble_eq_true rfl) (Nat.le_add_right _ _)⟩ rfl hl.1 rfl (lv_room (Nat.le_of_ble_eq_true rfl)) dX1_valueOf_65 ⟨(by first | exact Nat.le_refl _ | exact Nat.zero_le _ | (dsimp only; omega)), (by first | exact Nat.le_refl _ | exact Nat.zero_le _ | (dsimp only; omega))⟩) hS (fun r65 G65 H locs hp65 hR hS => ?_)
        obtain ⟨rfl, e0⟩ := hp65
        rw [e0] at hR
        exact g_fret M hr hlk hR hS (by omega) (by omega) dX1_valueOf_68 (⟨by rw [hz, hv]; show _ = oF (fBy F o v); unfold fBy; rw [if_neg (by rw [bI_0.mp c57]; decide)]; rfl, rfl⟩)
      · refine lv_fload hx hb dX1_valueOf_60 (lv_at hl 0 rfl) ?_
        refine lv_goto (tgt := 68) hx hb dX1_valueOf_62 (by decide) ?_
        exact g_fret M hr hlk hR hS (by omega) (by omega) dX1_valueOf_68 (⟨by rw [hz, hv]; show _ = oF (fBy F o v); unfold fBy; rw [if_pos (bI_n0.mp c57)]; rfl, rfl⟩)
    · refine g_kf (g_SN (As := []) M hR hS (c_X0_nothing l K ) q908 q60 q906 q907 0 md_X0_nothing ⟨rfl, rfl⟩ ⟨Nat.le_trans (m := 21) (Nat.le_of_ble_eq_true rfl) (Nat.le_add_right _ _), Nat.le_trans (m := 325) (Nat.le_of_ble_eq_true rfl) (Nat.le_add_right _ _)⟩ rfl hl.1 rfl (lv_room (Nat.le_of_ble_eq_true rfl)) dX1_valueOf_31 ⟨(by first | exact Nat.le_refl _ | exact Nat.zero_le _ | (dsimp only; omega)), (by first | exact Nat.le_refl _ | exact Nat.zero_le _ | (dsimp only; omega))⟩) hS (fun r31 G31 H locs hp31 hR hS => ?_)
      obtain ⟨rfl, e0⟩ := hp31
      rw [e0] at hR
      exact g_fret M hr hlk hR hS (by omega) (by omega) dX1_valueOf_34 (⟨by rw [hz, isN c28]; rfl, rfl⟩)
  · have hz : cO F N n ps o = some (fNm F o) := if_pos c6
    refine lv_aload_n hx hb dX1_valueOf_9 rfl (lv_at hl 1 rfl) ?_
    refine o_get3 M hR (h.order o ho) q340 dX1_valueOf_10 ?_
    exact g_fret M hr hlk hR hS (by omega) (by omega) dX1_valueOf_13 (⟨by rw [hz]; rfl, rfl⟩)

set_option maxHeartbeats 4000000 in
set_option maxRecDepth 100000 in
theorem c_X1_value_2s (l : Launch) (K : gK) {G : gG} {a ra lo lt : Nat} {x y : Nat → Nat} {F E : Nat → Int32} {N : Nat} (h : sR K G a ra lo lt x y F E N) {P : Nat} (ok : fOk F P N) (n : Nat) (hO : vO l K G a x F N n) {w : Nat} (hw16 : w < 16) {ps : List Nat} (hl9 : ps.length + (n + 1) = 17) (hnd : ps.Nodup) (hps : ∀ u ∈ ps, u < 16) : Met l yX1_value_2 (ws_ yX1_value_2 cX1_value_2 4 (Option.some Jvm.ClassFile.FieldType.float)) (gRm (22 + 2 * n) 0 0 (350 + 50 * n)) (gPre K [.ref a, .int (nI w), .int (nI (mS ps))] G) (gQf K (fun r G1 => r = oF (cV F N (n + 1) ps w) ∧ G1 = G)) 0 0 (gA K) := by
  refine g_met (by decide) (Nat.le_of_ble_eq_true rfl) ?_
  intro p e s m below meth c M hr hlk hnm hR ls hl
  have M : gM K p s m _ c cX1_value_2 4 RX1 := M
  have hx := M.hx
  have hb := M.hb
  have hS : va_S (gA K) s.heap s.heap [] := va_S.rf
  have hl : lv_has ls 4 [(0, .ref a), (1, .int (nI w)), (2, .int (nI (mS ps)))] := hl
  refine lv_aload_n hx hb dX1_value_2_0 rfl (lv_at hl 0 rfl) ?_
  refine lv_iload_n hx hb dX1_value_2_1 rfl (lv_at hl 1 rfl) ?_
  refine g_kq (g_V (As := [_]) M hR hS (c_X1_ruler l K h hw16) (lw_V q898 q899 q900 q61 q901) 1 md_X1_ruler rfl ⟨rfl, rfl⟩ ⟨Nat.le_trans (m := 22) (Nat.le_of_ble_eq_true rfl) (Nat.le_add_right _ _), Nat.le_trans (m := 350) (Nat.le_of_ble_eq_true rfl) (Nat.le_add_right _ _)⟩ (hR.recv M h.obj rfl) rfl hl.1 rfl (lv_room (Nat.le_of_ble_eq_true rfl)) dX1_value_2_2 ⟨(by first | exact Nat.le_refl _ | exact Nat.zero_le _ | (dsimp only; omega)), (by first | exact Nat.le_refl _ | exact Nat.zero_le _ | (dsimp only; omega))⟩) hS (fun r2 G2 H locs hp2 hR hS => ?_)
  obtain ⟨rfl, e2⟩ := hp2
  rw [e2] at hR
  cases hr5 : fRul F (nI w) N with
  | none =>
    refine lv_astore_nN (lv' := [(3, _), (0, _), (1, _), (2, _)]) hx hb dX1_value_2_5 rfl hl (by decide) rfl (fun ls hl => ?_)
    refine lv_aload_nN hx hb dX1_value_2_6 rfl (lv_at hl 0 rfl) ?_
    refine lv_ifnullN (tgt := 19) hx hb dX1_value_2_7 (by decide) ?_
    refine g_kf (g_SN (As := []) M hR hS (c_X0_nothing l K ) q908 q60 q906 q907 0 md_X0_nothing ⟨rfl, rfl⟩ ⟨Nat.le_trans (m := 22) (Nat.le_of_ble_eq_true rfl) (Nat.le_add_right _ _), Nat.le_trans (m := 350) (Nat.le_of_ble_eq_true rfl) (Nat.le_add_right _ _)⟩ rfl hl.1 rfl (lv_room (Nat.le_of_ble_eq_true rfl)) dX1_value_2_19 ⟨(by first | exact Nat.le_refl _ | exact Nat.zero_le _ | (dsimp only; omega)), (by first | exact Nat.le_refl _ | exact Nat.zero_le _ | (dsimp only; omega))⟩) hS (fun r19 G19 H locs hp19 hR hS => ?_)
    obtain ⟨rfl, e0⟩ := hp19
    rw [e0] at hR
    exact g_fret M hr hlk hR hS (by omega) (by omega) dX1_value_2_22 (⟨by rw [cV_s, hr5]; rfl, rfl⟩)
  | some r9 =>
    have hr9 := fRul_lt hr5
    refine lv_astore_n (lv' := [(3, _), (0, _), (1, _), (2, _)]) hx hb dX1_value_2_5 rfl hl (by decide) rfl (fun ls hl => ?_)
    refine lv_aload_n hx hb dX1_value_2_6 rfl (lv_at hl 0 rfl) ?_
    refine lv_ifnull hx hb dX1_value_2_7 ?_
    refine lv_iload_n hx hb dX1_value_2_10 rfl (lv_at hl 3 rfl) ?_
    refine lv_iload_n hx hb dX1_value_2_11 rfl (lv_at hl 2 rfl) ?_
    refine lv_ishr hx hb dX1_value_2_12 ?_
    refine lv_iconst (v := (1 : Int32)) hx hb dX1_value_2_13 (by decide) ?_
    refine lv_iand hx hb dX1_value_2_14 ?_
    refine g_topi (bI (decide (w ∈ ps))) (bt_t hps hw16) ?_
    refine lv_iconst (v := (1 : Int32)) hx hb dX1_value_2_15 (by decide) ?_
    refine lv_icmp_ne (tgt := 23) hx hb dX1_value_2_16 (by decide) (fun c16 => ?_) (fun c16 => ?_)
    · have hnin : ¬ w ∈ ps := fun z => c16 (bI_t (decide_eq_true z))
      refine lv_aload_n hx hb dX1_value_2_23 rfl (lv_at hl 1 rfl) ?_
      refine lv_aload_n hx hb dX1_value_2_24 rfl (lv_at hl 0 rfl) ?_
      refine lv_iload_n hx hb dX1_value_2_25 rfl (lv_at hl 3 rfl) ?_
      refine lv_iconst (v := (1 : Int32)) hx hb dX1_value_2_26 (by decide) ?_
      refine lv_iload_n hx hb dX1_value_2_27 rfl (lv_at hl 2 rfl) ?_
      refine lv_ishl hx hb dX1_value_2_28 ?_
      refine lv_ior hx hb dX1_value_2_29 ?_
      refine g_topi (nI (mS (w :: ps))) (bt_o hps hw16) ?_
      refine g_kf (g_V (As := [_, _]) M hR hS (((fun (_ : Launch) (_ : gK) => hO (w :: ps) r9 (by show ps.length + 1 + n = 17; omega) (List.nodup_cons.mpr ⟨hnin, hnd⟩) (fun z hz => (List.mem_cons.mp hz).elim (fun e => e ▸ hw16) (hps z)) hr9)) l K ) (lw_V q910 q912 qs19 q61 q913) 2 md_X1_valueOf rfl ⟨rfl, rfl⟩ ⟨by show 21 + 2 * n + 1 ≤ 22 + 2 * n; omega, by show 8 + (5 + 11) + (325 + 50 * n) ≤ 350 + 50 * n; omega⟩ (hR.recv M h.obj rfl) rfl hl.1 rfl (lv_room (Nat.le_of_ble_eq_true rfl)) dX1_value_2_30 ⟨(by first | exact Nat.le_refl _ | exact Nat.zero_le _ | (dsimp only; omega)), (by first | exact Nat.le_refl _ | exact Nat.zero_le _ | (dsimp only; omega))⟩) hS (fun r30 G30 H locs hp30 hR hS => ?_)
      obtain ⟨rfl, e30⟩ := hp30
      rw [e30] at hR
      exact g_fret M hr hlk hR hS (by omega) (by omega) dX1_value_2_33 (⟨by rw [cV_s, hr5]; show _ = oF (if w ∈ ps then none else _); rw [if_neg hnin], rfl⟩)
    · refine g_kf (g_SN (As := []) M hR hS (c_X0_nothing l K ) q908 q60 q906 q907 0 md_X0_nothing ⟨rfl, rfl⟩ ⟨Nat.le_trans (m := 22) (Nat.le_of_ble_eq_true rfl) (Nat.le_add_right _ _), Nat.le_trans (m := 350) (Nat.le_of_ble_eq_true rfl) (Nat.le_add_right _ _)⟩ rfl hl.1 rfl (lv_room (Nat.le_of_ble_eq_true rfl)) dX1_value_2_19 ⟨(by first | exact Nat.le_refl _ | exact Nat.zero_le _ | (dsimp only; omega)), (by first | exact Nat.le_refl _ | exact Nat.zero_le _ | (dsimp only; omega))⟩) hS (fun r19 G19 H locs hp19 hR hS => ?_)
      obtain ⟨rfl, e0⟩ := hp19
      rw [e0] at hR
      exact g_fret M hr hlk hR hS (by omega) (by omega) dX1_value_2_22 (⟨by rw [cV_s, hr5]; show _ = oF (if w ∈ ps then none else _); rw [if_pos (of_decide_eq_true (bI_1.mp c16))]; rfl, rfl⟩)

theorem vV_all (l : Launch) (K : gK) {G : gG} {a ra lo ls : Nat} {x y : Nat → Nat} {F E : Nat → Int32} {N : Nat} (h : sR K G a ra lo ls x y F E N) {P : Nat} (ok : fOk F P N) : ∀ n, vV l K G a F N n
  | 0 => fun ps w hl hd hp _ => absurd (nd_le 16 ps hd hp) (by omega)
  | n + 1 => fun ps w hl hd hp hw => by
    have h1 := c_X1_value_2s l K h ok n (fun ps o hl hd hp ho => c_X1_valueOf l K h ok n (vV_all l K h ok n) ho hl hd hp) hw hl hd hp
    rw [show 20 + 2 * (n + 1) = 22 + 2 * n by omega, show 300 + 50 * (n + 1) = 350 + 50 * n by omega]
    exact h1
theorem c_X1_value_20 (l : Launch) (K : gK) {G : gG} {a ra lo ls : Nat} {x y : Nat → Nat} {F E : Nat → Int32} {N : Nat} (h : sR K G a ra lo ls x y F E N) {P : Nat} (ok : fOk F P N) {w : Nat} (hw : w < 16) : Met l yX1_value_2 (ws_ yX1_value_2 cX1_value_2 4 (Option.some Jvm.ClassFile.FieldType.float)) (gRm 54 0 0 1150) (gPre K [.ref a, .int (nI w), .int 0] G) (gQf K (fun r G1 => r = oF (fVl F N 17 (nI w)) ∧ G1 = G)) 0 0 (gA K) := by
  have h1 := vV_all l K h ok 17 [] w rfl List.nodup_nil (fun u z => by cases z) hw
  rw [cV_0 ok hw] at h1
  exact h1
theorem c_X1_valueOf0 (l : Launch) (K : gK) {G : gG} {a ra lo ls : Nat} {x y : Nat → Nat} {F E : Nat → Int32} {N : Nat} (h : sR K G a ra lo ls x y F E N) {P : Nat} (ok : fOk F P N) {o : Nat} (ho : o < N) : Met l yX1_valueOf (ws_ yX1_valueOf cX1_valueOf 5 (Option.some Jvm.ClassFile.FieldType.float)) (gRm 55 0 0 1175) (gPre K [.ref a, .ref (x o), .int 0] G) (gQf K (fun r G1 => r = oF (fVo F N 17 o) ∧ G1 = G)) 0 0 (gA K) := by
  have h1 := c_X1_valueOf l K h ok 17 (vV_all l K h ok 17) ho (ps := []) rfl List.nodup_nil (fun u z => by cases z)
  rw [cO_0 ok ho] at h1
  exact h1

theorem md_X1_value : gMd yX1_value 1 := by
  unfold gMd
  decide +kernel
set_option maxHeartbeats 4000000 in
set_option maxRecDepth 100000 in
theorem c_X1_value (l : Launch) (K : gK) {G : gG} {a ra lo lt : Nat} {x y : Nat → Nat} {F E : Nat → Int32} {N : Nat} (h : sR K G a ra lo lt x y F E N) {P : Nat} (ok : fOk F P N) {w : Nat} (hw16 : w < 16) : Met l yX1_value (ws_ yX1_value cX1_value 2 (Option.some Jvm.ClassFile.FieldType.float)) (gRm 55 0 0 1173) (gPre K [.ref a, .int (nI w)] G) (gQf K (fun r G1 => r = oF (fVl F N 17 (nI w)) ∧ G1 = G)) 0 0 (gA K) := by
  refine g_met (by decide) (Nat.le_of_ble_eq_true rfl) ?_
  intro p e s m below meth c M hr hlk hnm hR ls hl
  have M : gM K p s m _ c cX1_value 2 RX1 := M
  have hx := M.hx
  have hb := M.hb
  have hS : va_S (gA K) s.heap s.heap [] := va_S.rf
  have hl : lv_has ls 2 [(0, .ref a), (1, .int (nI w))] := hl
  refine lv_aload_n hx hb dX1_value_0 rfl (lv_at hl 0 rfl) ?_
  refine lv_iload_n hx hb dX1_value_1 rfl (lv_at hl 1 rfl) ?_
  refine lv_iconst (v := (0 : Int32)) hx hb dX1_value_2 (by decide) ?_
  refine g_kf (g_V (As := [_, _]) M hR hS (c_X1_value_20 l K h ok hw16) (lw_V q894 q896 qs18 q61 q897) 2 md_X1_value_2 rfl ⟨rfl, rfl⟩ ⟨Nat.le_of_ble_eq_true rfl, Nat.le_of_ble_eq_true rfl⟩ (hR.recv M h.obj rfl) rfl hl.1 rfl (lv_room (Nat.le_of_ble_eq_true rfl)) dX1_value_3 ⟨(by first | exact Nat.le_refl _ | exact Nat.zero_le _ | (dsimp only; omega)), (by first | exact Nat.le_refl _ | exact Nat.zero_le _ | (dsimp only; omega))⟩) hS (fun r3 G3 H locs hp3 hR hS => ?_)
  obtain ⟨rfl, e3⟩ := hp3
  rw [e3] at hR
  exact g_fret M hr hlk hR hS (by omega) (by omega) dX1_value_6 (⟨rfl, rfl⟩)

theorem md_X1_valueOf_2 : gMd yX1_valueOf_2 1 := by
  unfold gMd
  decide +kernel
set_option maxHeartbeats 4000000 in
set_option maxRecDepth 100000 in
theorem c_X1_valueOf_2 (l : Launch) (K : gK) {G : gG} {a ra lo lt : Nat} {x y : Nat → Nat} {F E : Nat → Int32} {N : Nat} (h : sR K G a ra lo lt x y F E N) {P : Nat} (ok : fOk F P N) {o : Nat} (ho : o < N) : Met l yX1_valueOf_2 (ws_ yX1_valueOf_2 cX1_valueOf_2 2 (Option.some Jvm.ClassFile.FieldType.float)) (gRm 56 0 0 1199) (gPre K [.ref a, .ref (x o)] G) (gQf K (fun r G1 => r = oF (fVo F N 17 o) ∧ G1 = G)) 0 0 (gA K) := by
  refine g_met (by decide) (Nat.le_of_ble_eq_true rfl) ?_
  intro p e s m below meth c M hr hlk hnm hR ls hl
  have M : gM K p s m _ c cX1_valueOf_2 2 RX1 := M
  have hx := M.hx
  have hb := M.hb
  have hS : va_S (gA K) s.heap s.heap [] := va_S.rf
  have hl : lv_has ls 2 [(0, .ref a), (1, .ref (x o))] := hl
  refine lv_aload_n hx hb dX1_valueOf_2_0 rfl (lv_at hl 0 rfl) ?_
  refine lv_aload_n hx hb dX1_valueOf_2_1 rfl (lv_at hl 1 rfl) ?_
  refine lv_iconst (v := (0 : Int32)) hx hb dX1_valueOf_2_2 (by decide) ?_
  refine g_kf (g_V (As := [_, _]) M hR hS (c_X1_valueOf0 l K h ok ho) (lw_V q910 q912 qs19 q61 q913) 2 md_X1_valueOf rfl ⟨rfl, rfl⟩ ⟨Nat.le_of_ble_eq_true rfl, Nat.le_of_ble_eq_true rfl⟩ (hR.recv M h.obj rfl) rfl hl.1 rfl (lv_room (Nat.le_of_ble_eq_true rfl)) dX1_valueOf_2_3 ⟨(by first | exact Nat.le_refl _ | exact Nat.zero_le _ | (dsimp only; omega)), (by first | exact Nat.le_refl _ | exact Nat.zero_le _ | (dsimp only; omega))⟩) hS (fun r3 G3 H locs hp3 hR hS => ?_)
  obtain ⟨rfl, e3⟩ := hp3
  rw [e3] at hR
  exact g_fret M hr hlk hR hS (by omega) (by omega) dX1_valueOf_2_6 (⟨rfl, rfl⟩)

theorem md_X1_differ : gMd yX1_differ 2 := by
  unfold gMd
  decide +kernel
set_option maxHeartbeats 4000000 in
set_option maxRecDepth 100000 in
theorem c_X1_differ (l : Launch) (K : gK) {G : gG} {a ra lo lt : Nat} {x y : Nat → Nat} {F E : Nat → Int32} {N : Nat} (h : sR K G a ra lo lt x y F E N) (z1 z2 : Option UInt32) (h1 : ∀ v, z1 = some v → fB v (2 ^ 30 * fU)) (h2 : ∀ v, z2 = some v → fB v (2 ^ 30 * fU)) : Met l yX1_differ (ws_ yX1_differ cX1_differ 3 (Option.some Jvm.ClassFile.FieldType.boolean)) (gRm 1 0 0 20) (gPre K [.ref a, .float (oF z1), .float (oF z2)] G) (gQi K (fun r G1 => r = bI (fDf F z1 z2) ∧ G1 = G)) 0 0 (gA K) := by
  refine g_met (by decide) (Nat.le_of_ble_eq_true rfl) ?_
  intro p e s m below meth c M hr hlk hnm hR ls hl
  have M : gM K p s m _ c cX1_differ 3 RX1 := M
  have hx := M.hx
  have hb := M.hb
  have hS : va_S (gA K) s.heap s.heap [] := va_S.rf
  have hl : lv_has ls 3 [(0, .ref a), (1, .float (oF z1)), (2, .float (oF z2))] := hl
  refine lv_fload_n hx hb dX1_differ_0 rfl (lv_at hl 1 rfl) ?_
  refine g_ki (g_SN (As := [_]) M hR hS (c_X0_isThere l K z1 h1) q924 q60 q922 q923 1 md_X0_isThere ⟨rfl, rfl⟩ ⟨Nat.le_of_ble_eq_true rfl, Nat.le_of_ble_eq_true rfl⟩ rfl hl.1 rfl (lv_room (Nat.le_of_ble_eq_true rfl)) dX1_differ_1 ⟨(by first | exact Nat.le_refl _ | exact Nat.zero_le _ | (dsimp only; omega)), (by first | exact Nat.le_refl _ | exact Nat.zero_le _ | (dsimp only; omega))⟩) hS (fun r1 G1 H locs hp1 hR hS => ?_)
  obtain ⟨rfl, e0⟩ := hp1
  rw [e0] at hR
  refine lv_if_eq (tgt := 14) hx hb dX1_differ_4 (by decide) (fun c4 => ?_) (fun c4 => ?_)
  · have hno : z1 = none ∨ z2 = none := Or.inl (isN c4)
    refine lv_fload_n hx hb dX1_differ_14 rfl (lv_at hl 1 rfl) ?_
    refine g_ki (g_SN (As := [_]) M hR hS (c_X0_isThere l K z1 h1) q924 q60 q922 q923 1 md_X0_isThere ⟨rfl, rfl⟩ ⟨Nat.le_of_ble_eq_true rfl, Nat.le_of_ble_eq_true rfl⟩ rfl hl.1 rfl (lv_room (Nat.le_of_ble_eq_true rfl)) dX1_differ_15 ⟨(by first | exact Nat.le_refl _ | exact Nat.zero_le _ | (dsimp only; omega)), (by first | exact Nat.le_refl _ | exact Nat.zero_le _ | (dsimp only; omega))⟩) hS (fun r15 G15 H locs hp15 hR hS => ?_)
    obtain ⟨rfl, e0⟩ := hp15
    rw [e0] at hR
    refine lv_fload_n hx hb dX1_differ_18 rfl (lv_at hl 2 rfl) ?_
    refine g_ki (g_SN (As := [_]) M hR hS (c_X0_isThere l K z2 h2) q924 q60 q922 q923 1 md_X0_isThere ⟨rfl, rfl⟩ ⟨Nat.le_of_ble_eq_true rfl, Nat.le_of_ble_eq_true rfl⟩ rfl hl.1 rfl (lv_room (Nat.le_of_ble_eq_true rfl)) dX1_differ_19 ⟨(by first | exact Nat.le_refl _ | exact Nat.zero_le _ | (dsimp only; omega)), (by first | exact Nat.le_refl _ | exact Nat.zero_le _ | (dsimp only; omega))⟩) hS (fun r19 G19 H locs hp19 hR hS => ?_)
    obtain ⟨rfl, e0⟩ := hp19
    rw [e0] at hR
    refine lv_icmp_eq (tgt := 29) hx hb dX1_differ_22 (by decide) (fun c22 => ?_) (fun c22 => ?_)
    · refine lv_iconst (v := (0 : Int32)) hx hb dX1_differ_29 (by decide) ?_
      exact g_zret M hr hlk (by first | rfl | exact bI_nar _) hR hS (by omega) (by omega) dX1_differ_30 (⟨by rcases hno with e | e <;> subst e <;> (first | (cases z2 with | none => rfl | some v => exact absurd c22 (by decide : ¬ (0 : Int32) = 1)) | (cases z1 with | none => rfl | some v => exact absurd c22 (by decide : ¬ (1 : Int32) = 0))), rfl⟩)
    · refine lv_iconst (v := (1 : Int32)) hx hb dX1_differ_25 (by decide) ?_
      refine lv_goto (tgt := 30) hx hb dX1_differ_26 (by decide) ?_
      exact g_zret M hr hlk (by first | rfl | exact bI_nar _) hR hS (by omega) (by omega) dX1_differ_30 (⟨by rcases hno with e | e <;> subst e <;> (first | (cases z2 with | none => exact absurd rfl c22 | some v => rfl) | (cases z1 with | none => exact absurd rfl c22 | some v => rfl)), rfl⟩)
  · refine lv_fload_n hx hb dX1_differ_7 rfl (lv_at hl 2 rfl) ?_
    refine g_ki (g_SN (As := [_]) M hR hS (c_X0_isThere l K z2 h2) q924 q60 q922 q923 1 md_X0_isThere ⟨rfl, rfl⟩ ⟨Nat.le_of_ble_eq_true rfl, Nat.le_of_ble_eq_true rfl⟩ rfl hl.1 rfl (lv_room (Nat.le_of_ble_eq_true rfl)) dX1_differ_8 ⟨(by first | exact Nat.le_refl _ | exact Nat.zero_le _ | (dsimp only; omega)), (by first | exact Nat.le_refl _ | exact Nat.zero_le _ | (dsimp only; omega))⟩) hS (fun r8 G8 H locs hp8 hR hS => ?_)
    obtain ⟨rfl, e0⟩ := hp8
    rw [e0] at hR
    refine lv_if_ne (tgt := 31) hx hb dX1_differ_11 (by decide) (fun c11 => ?_) (fun c11 => ?_)
    · obtain ⟨v1, rfl⟩ := isS c4
      obtain ⟨v2, rfl⟩ := isS c11
      refine lv_fload_n hx hb dX1_differ_31 rfl (lv_at hl 1 rfl) ?_
      refine lv_fload_n hx hb dX1_differ_32 rfl (lv_at hl 2 rfl) ?_
      refine lv_fsub hx hb dX1_differ_33 (fB_sub (h1 v1 rfl) (h2 v2 rfl) (rep_p 31 (by decide)) (by rw [← Nat.add_mul]; exact Nat.mul_le_mul_right _ (by decide))).n32 ?_
      refine g_kf (g_SN (As := [_]) M hR hS (c_X0_size l K _) q965 q60 q963 q964 1 md_X0_size ⟨rfl, rfl⟩ ⟨Nat.le_of_ble_eq_true rfl, Nat.le_of_ble_eq_true rfl⟩ rfl hl.1 rfl (lv_room (Nat.le_of_ble_eq_true rfl)) dX1_differ_34 ⟨(by first | exact Nat.le_refl _ | exact Nat.zero_le _ | (dsimp only; omega)), (by first | exact Nat.le_refl _ | exact Nat.zero_le _ | (dsimp only; omega))⟩) hS (fun r34 G34 H locs hp34 hR hS => ?_)
      obtain ⟨rfl, e0⟩ := hp34
      rw [e0] at hR
      refine lv_aload_n hx hb dX1_differ_37 rfl (lv_at hl 0 rfl) ?_
      refine g_get (C := RX1) (T := TX1) (N := 6) M hR h.obj rfl in_X1 3 (by decide) q195 (fun x h => h) rfl dX1_differ_38 ?_
      refine lv_fcmp hx hb dX1_differ_41 ?_
      refine lv_if_le (tgt := 49) hx hb dX1_differ_42 (by decide) (fun c42 => ?_) (fun c42 => ?_)
      · refine lv_iconst (v := (0 : Int32)) hx hb dX1_differ_49 (by decide) ?_
        exact g_zret M hr hlk (by first | rfl | exact bI_nar _) hR hS (by omega) (by omega) dX1_differ_50 (⟨by show _ = bI (decide (0 < Op.cmpValue (FP.fcmp (fAb (FP.fsub (oF (some v1)) (oF (some v2)))) (F 5).toUInt32) .l)); rw [decide_eq_false (Int32.not_lt.mpr c42)]; rfl, rfl⟩)
      · refine lv_iconst (v := (1 : Int32)) hx hb dX1_differ_45 (by decide) ?_
        refine lv_goto (tgt := 50) hx hb dX1_differ_46 (by decide) ?_
        exact g_zret M hr hlk (by first | rfl | exact bI_nar _) hR hS (by omega) (by omega) dX1_differ_50 (⟨by show _ = bI (decide (0 < Op.cmpValue (FP.fcmp (fAb (FP.fsub (oF (some v1)) (oF (some v2)))) (F 5).toUInt32) .l)); rw [decide_eq_true (Int32.not_le.mp c42)]; rfl, rfl⟩)
    · have hno : z1 = none ∨ z2 = none := Or.inr (isN c11)
      refine lv_fload_n hx hb dX1_differ_14 rfl (lv_at hl 1 rfl) ?_
      refine g_ki (g_SN (As := [_]) M hR hS (c_X0_isThere l K z1 h1) q924 q60 q922 q923 1 md_X0_isThere ⟨rfl, rfl⟩ ⟨Nat.le_of_ble_eq_true rfl, Nat.le_of_ble_eq_true rfl⟩ rfl hl.1 rfl (lv_room (Nat.le_of_ble_eq_true rfl)) dX1_differ_15 ⟨(by first | exact Nat.le_refl _ | exact Nat.zero_le _ | (dsimp only; omega)), (by first | exact Nat.le_refl _ | exact Nat.zero_le _ | (dsimp only; omega))⟩) hS (fun r15 G15 H locs hp15 hR hS => ?_)
      obtain ⟨rfl, e0⟩ := hp15
      rw [e0] at hR
      refine lv_fload_n hx hb dX1_differ_18 rfl (lv_at hl 2 rfl) ?_
      refine g_ki (g_SN (As := [_]) M hR hS (c_X0_isThere l K z2 h2) q924 q60 q922 q923 1 md_X0_isThere ⟨rfl, rfl⟩ ⟨Nat.le_of_ble_eq_true rfl, Nat.le_of_ble_eq_true rfl⟩ rfl hl.1 rfl (lv_room (Nat.le_of_ble_eq_true rfl)) dX1_differ_19 ⟨(by first | exact Nat.le_refl _ | exact Nat.zero_le _ | (dsimp only; omega)), (by first | exact Nat.le_refl _ | exact Nat.zero_le _ | (dsimp only; omega))⟩) hS (fun r19 G19 H locs hp19 hR hS => ?_)
      obtain ⟨rfl, e0⟩ := hp19
      rw [e0] at hR
      refine lv_icmp_eq (tgt := 29) hx hb dX1_differ_22 (by decide) (fun c22 => ?_) (fun c22 => ?_)
      · refine lv_iconst (v := (0 : Int32)) hx hb dX1_differ_29 (by decide) ?_
        exact g_zret M hr hlk (by first | rfl | exact bI_nar _) hR hS (by omega) (by omega) dX1_differ_30 (⟨by rcases hno with e | e <;> subst e <;> (first | (cases z2 with | none => rfl | some v => exact absurd c22 (by decide : ¬ (0 : Int32) = 1)) | (cases z1 with | none => rfl | some v => exact absurd c22 (by decide : ¬ (1 : Int32) = 0))), rfl⟩)
      · refine lv_iconst (v := (1 : Int32)) hx hb dX1_differ_25 (by decide) ?_
        refine lv_goto (tgt := 30) hx hb dX1_differ_26 (by decide) ?_
        exact g_zret M hr hlk (by first | rfl | exact bI_nar _) hR hS (by omega) (by omega) dX1_differ_30 (⟨by rcases hno with e | e <;> subst e <;> (first | (cases z2 with | none => exact absurd rfl c22 | some v => rfl) | (cases z1 with | none => exact absurd rfl c22 | some v => rfl)), rfl⟩)

theorem md_X1_against : gMd yX1_against 1 := by
  unfold gMd
  decide +kernel
set_option maxHeartbeats 4000000 in
set_option maxRecDepth 100000 in
theorem c_X1_against (l : Launch) (K : gK) {G : gG} {a ra lo lt : Nat} {x y : Nat → Nat} {F E : Nat → Int32} {N : Nat} (h : sR K G a ra lo lt x y F E N) {P : Nat} (ok : fOk F P N) {w : Nat} (hw16 : w < 16) : Met l yX1_against (ws_ yX1_against cX1_against 6 (Option.some (Jvm.ClassFile.FieldType.object "NailedOrders$Order"))) (gRm 57 0 0 1220) (gPre K [.ref a, .int (nI w)] G) (gQq K (fun r G1 => r = (fCf F N (nI w)).map x ∧ G1 = G)) 0 0 (gA K) := by
  refine g_met (by decide) (Nat.le_of_ble_eq_true rfl) ?_
  intro p e s m below meth c M hr hlk hnm hR ls hl
  have M : gM K p s m _ c cX1_against 6 RX1 := M
  have hx := M.hx
  have hb := M.hb
  have hS : va_S (gA K) s.heap s.heap [] := va_S.rf
  have hl : lv_has ls 6 [(0, .ref a), (1, .int (nI w))] := hl
  have h40 := h.n40
  have hlen := stk_len F (nI w) N
  have hcl := fCnt_le (fHf F (nI w)) 0 N
  refine lv_aload_n hx hb dX1_against_0 rfl (lv_at hl 0 rfl) ?_
  refine lv_iload_n hx hb dX1_against_1 rfl (lv_at hl 1 rfl) ?_
  refine g_kq (g_V (As := [_]) M hR hS (c_X1_ruler l K h hw16) (lw_V q898 q899 q900 q61 q901) 1 md_X1_ruler rfl ⟨rfl, rfl⟩ ⟨Nat.le_of_ble_eq_true rfl, Nat.le_of_ble_eq_true rfl⟩ (hR.recv M h.obj rfl) rfl hl.1 rfl (lv_room (Nat.le_of_ble_eq_true rfl)) dX1_against_2 ⟨(by first | exact Nat.le_refl _ | exact Nat.zero_le _ | (dsimp only; omega)), (by first | exact Nat.le_refl _ | exact Nat.zero_le _ | (dsimp only; omega))⟩) hS (fun r2 G2 H locs hp2 hR hS => ?_)
  obtain ⟨rfl, e2⟩ := hp2
  rw [e2] at hR
  cases hr5 : fRul F (nI w) N with
  | none =>
    refine lv_astore_nN (lv' := [(2, _), (0, _), (1, _)]) hx hb dX1_against_5 rfl hl (by decide) rfl (fun ls hl => ?_)
    refine lv_aload_n hx hb dX1_against_6 rfl (lv_at hl 1 rfl) ?_
    refine g_get (C := RX1) (T := TX1) (N := 6) M hR h.obj rfl in_X1 2 (by decide) q193 (fun x h => h) rfl dX1_against_7 ?_
    refine lv_iload_n hx hb dX1_against_10 rfl (lv_at hl 2 rfl) ?_
    refine g_k5q (g_F (As := [_]) (ci := 8) M hR hS (c_getX l K h.stacks w hw16) rfl (by decide) q285 q288 q290 q64 q292 1 md_i_J2_get ⟨rfl, rfl⟩ ⟨Nat.le_of_ble_eq_true rfl, Nat.le_of_ble_eq_true rfl⟩ (hR.recvL M h.stacks) rfl hl.1 rfl (lv_room (Nat.le_of_ble_eq_true rfl)) dX1_against_11 ⟨(by first | exact Nat.le_refl _ | exact Nat.zero_le _ | (dsimp only; omega)), (by first | exact Nat.le_refl _ | exact Nat.zero_le _ | (dsimp only; omega))⟩) hS (fun r11 G11 H locs hp11 hR hS => ?_)
    obtain ⟨rfl, e11⟩ := hp11
    rw [e11] at hR
    refine l_cast M hR (h.stack w hw16) q385 dX1_against_16 ?_
    refine lv_astore_n (lv' := [(3, _), (2, _), (0, _), (1, _)]) hx hb dX1_against_19 rfl hl (by decide) rfl (fun ls hl => ?_)
    refine lv_aload_n hx hb dX1_against_20 rfl (lv_at hl 0 rfl) ?_
    refine g_k5i (g_F (As := []) (ci := 8) M hR hS (c_sizeS l K (h.stack w hw16)) rfl (by decide) q276 q279 q281 q64 q283 0 md_i_J2_size ⟨rfl, rfl⟩ ⟨Nat.le_of_ble_eq_true rfl, Nat.le_of_ble_eq_true rfl⟩ (hR.recvL M (h.stack w hw16)) rfl hl.1 rfl (lv_room (Nat.le_of_ble_eq_true rfl)) dX1_against_21 ⟨(by first | exact Nat.le_refl _ | exact Nat.zero_le _ | (dsimp only; omega)), (by first | exact Nat.le_refl _ | exact Nat.zero_le _ | (dsimp only; omega))⟩) hS (fun r21 G21 H locs hp21 hR hS => ?_)
    obtain ⟨rfl, e21⟩ := hp21
    rw [e21] at hR
    refine lv_iconst (v := (1 : Int32)) hx hb dX1_against_26 (by decide) ?_
    refine lv_isub hx hb dX1_against_27 ?_
    refine lv_istore (lv' := [(4, _), (3, _), (2, _), (0, _), (1, _)]) hx hb dX1_against_28 hl (by decide) rfl (fun ls hl => ?_)
    refine lv_iload hx hb dX1_against_30 (lv_at hl 0 rfl) ?_
    refine lv_if_lt (tgt := 107) hx hb dX1_against_32 (by decide) (fun c32 => ?_) (fun c32 => absurd c32 (not_not_intro (by rw [show (fStk F (nI w) N).length = 0 by rw [rul_nil hr5]; rfl]; decide)))
    refine lv_null hx hb dX1_against_107 ?_
    exact g_qret M hr (Or.inl ⟨_, rfl⟩) hlk none rfl hR hS (by omega) (by omega) dX1_against_108 (⟨by unfold fCf; rw [hr5]; rfl, rfl⟩)
  | some r9 =>
    have hr9 := fRul_lt hr5
    refine lv_astore_n (lv' := [(2, _), (0, _), (1, _)]) hx hb dX1_against_5 rfl hl (by decide) rfl (fun ls hl => ?_)
    refine lv_aload_n hx hb dX1_against_6 rfl (lv_at hl 1 rfl) ?_
    refine g_get (C := RX1) (T := TX1) (N := 6) M hR h.obj rfl in_X1 2 (by decide) q193 (fun x h => h) rfl dX1_against_7 ?_
    refine lv_iload_n hx hb dX1_against_10 rfl (lv_at hl 2 rfl) ?_
    refine g_k5q (g_F (As := [_]) (ci := 8) M hR hS (c_getX l K h.stacks w hw16) rfl (by decide) q285 q288 q290 q64 q292 1 md_i_J2_get ⟨rfl, rfl⟩ ⟨Nat.le_of_ble_eq_true rfl, Nat.le_of_ble_eq_true rfl⟩ (hR.recvL M h.stacks) rfl hl.1 rfl (lv_room (Nat.le_of_ble_eq_true rfl)) dX1_against_11 ⟨(by first | exact Nat.le_refl _ | exact Nat.zero_le _ | (dsimp only; omega)), (by first | exact Nat.le_refl _ | exact Nat.zero_le _ | (dsimp only; omega))⟩) hS (fun r11 G11 H locs hp11 hR hS => ?_)
    obtain ⟨rfl, e11⟩ := hp11
    rw [e11] at hR
    refine l_cast M hR (h.stack w hw16) q385 dX1_against_16 ?_
    refine lv_astore_n (lv' := [(3, _), (2, _), (0, _), (1, _)]) hx hb dX1_against_19 rfl hl (by decide) rfl (fun ls hl => ?_)
    refine lv_aload_n hx hb dX1_against_20 rfl (lv_at hl 0 rfl) ?_
    refine g_k5i (g_F (As := []) (ci := 8) M hR hS (c_sizeS l K (h.stack w hw16)) rfl (by decide) q276 q279 q281 q64 q283 0 md_i_J2_size ⟨rfl, rfl⟩ ⟨Nat.le_of_ble_eq_true rfl, Nat.le_of_ble_eq_true rfl⟩ (hR.recvL M (h.stack w hw16)) rfl hl.1 rfl (lv_room (Nat.le_of_ble_eq_true rfl)) dX1_against_21 ⟨(by first | exact Nat.le_refl _ | exact Nat.zero_le _ | (dsimp only; omega)), (by first | exact Nat.le_refl _ | exact Nat.zero_le _ | (dsimp only; omega))⟩) hS (fun r21 G21 H locs hp21 hR hS => ?_)
    obtain ⟨rfl, e21⟩ := hp21
    rw [e21] at hR
    refine lv_iconst (v := (1 : Int32)) hx hb dX1_against_26 (by decide) ?_
    refine lv_isub hx hb dX1_against_27 ?_
    refine lv_istore (lv' := [(4, _), (3, _), (2, _), (0, _), (1, _)]) hx hb dX1_against_28 hl (by decide) rfl (fun ls hl => ?_)
    refine g_loop (pc := 30) (fun (k : Nat) (ls : Array Slot) (G9 : gG) (cells slots : Nat) => ∃ j, lv_has ls 6 [(4, .int (nI j - 1)), (3, .ref (y w)), (2, .ref (x r9)), (0, .ref a)] ∧ j ≤ (fStk F (nI w) N).length ∧ k = j ∧ lsL (fAq F N r9) (fStk F (nI w) N) = lsL (fAq F N r9) ((fStk F (nI w) N).take j) ∧ G = G9 ∧ cells = 0 ∧ slots = 0) ?_ ((fStk F (nI w) N).length) ⟨_, lv_sub hl [0, 1, 2, 3] rfl, Nat.le_refl _, rfl, (by rw [List.take_length]), rfl, rfl, rfl⟩ hR hS
    intro k ls G9 H locs cells slots hI hR hS ih30
    obtain ⟨j, hl, hj, rfl, he, rfl, rfl, rfl⟩ := hI
    refine lv_iload hx hb dX1_against_30 (lv_at hl 0 rfl) ?_
    refine lv_if_lt (tgt := 107) hx hb dX1_against_32 (by decide) (fun c32 => ?_) (fun c32 => ?_)
    · refine lv_null hx hb dX1_against_107 ?_
      exact g_qret M hr (Or.inl ⟨_, rfl⟩) hlk none rfl hR hS (by omega) (by omega) dX1_against_108 (⟨by unfold fCf; rw [hr5]; show _ = (fLast (fAg F N (nI w) r9) N).map x; rw [ag_stk ok hr9, he, dn_end c32 (by omega)]; rfl, rfl⟩)
    · obtain ⟨i, rfl⟩ := dn_not c32
      rw [nI_pred] at hl
      have hil : i < (fStk F (nI w) N).length := by omega
      have hoi := (stk_lt (List.getElem_mem hil)).1
      refine lv_aload_n hx hb dX1_against_35 rfl (lv_at hl 1 rfl) ?_
      refine lv_iload hx hb dX1_against_36 (lv_at hl 0 rfl) ?_
      refine g_k5q (g_F (As := [_]) (ci := 8) M hR hS (c_getS l K (h.stack w hw16) i hil) rfl (by decide) q285 q288 q290 q64 q292 1 md_i_J2_get ⟨rfl, rfl⟩ ⟨Nat.le_of_ble_eq_true rfl, Nat.le_of_ble_eq_true rfl⟩ (hR.recvL M (h.stack w hw16)) rfl hl.1 rfl (lv_room (Nat.le_of_ble_eq_true rfl)) dX1_against_38 ⟨(by first | exact Nat.le_refl _ | exact Nat.zero_le _ | (dsimp only; omega)), (by first | exact Nat.le_refl _ | exact Nat.zero_le _ | (dsimp only; omega))⟩) hS (fun r38 G38 H locs hp38 hR hS => ?_)
      obtain ⟨rfl, e38⟩ := hp38
      rw [e38] at hR
      refine o_cast M hR (h.order _ hoi) q303 dX1_against_43 ?_
      refine lv_astore (lv' := [(5, _), (4, _), (3, _), (2, _), (0, _)]) hx hb dX1_against_46 hl (by decide) rfl (fun ls hl => ?_)
      refine lv_aload hx hb dX1_against_48 (lv_at hl 0 rfl) ?_
      refine lv_aload_n hx hb dX1_against_50 rfl (lv_at hl 3 rfl) ?_
      refine lv_acmp_eq (rx := some _) (ry := some _) (tgt := 101) hx hb dX1_against_51 (by decide) (fun c51 => ?_) (fun c51 => ?_)
      · have hq : fAq F N r9 (fStk F (nI w) N)[i] = false := by unfold fAq; rw [h.xi _ _ hoi hr9 (Option.some.inj c51), decide_eq_true rfl]; rfl
        refine lv_iinc (v := _) (lv' := [(4, _), (5, _), (3, _), (2, _), (0, _)]) hx hb dX1_against_101 hl (k := 1) rfl (dn_dec _) (by decide) rfl (fun ls hl => ?_)
        refine lv_goto (tgt := 30) hx hb dX1_against_104 (by decide) ?_
        exact ih30 (i) _ _ _ _ _ _ (by omega) ⟨i, lv_sub hl [0, 2, 3, 4] rfl, by omega, rfl, he.trans (by rw [lsL_take hil]; exact if_neg (by rw [hq]; decide)), rfl, rfl, rfl⟩ hR hS
      · refine lv_aload hx hb dX1_against_54 (lv_at hl 0 rfl) ?_
        refine o_get1 M hR (h.order _ hoi) q330 dX1_against_56 ?_
        refine lv_aload_n hx hb dX1_against_59 rfl (lv_at hl 3 rfl) ?_
        refine o_get1 M hR (h.order r9 hr9) q330 dX1_against_60 ?_
        refine lv_icmp_eq (tgt := 101) hx hb dX1_against_63 (by decide) (fun c63 => ?_) (fun c63 => ?_)
        · have hq : fAq F N r9 (fStk F (nI w) N)[i] = false := by unfold fAq; rw [decide_eq_true c63]; rfl
          refine lv_iinc (v := _) (lv' := [(4, _), (5, _), (3, _), (2, _), (0, _)]) hx hb dX1_against_101 hl (k := 1) rfl (dn_dec _) (by decide) rfl (fun ls hl => ?_)
          refine lv_goto (tgt := 30) hx hb dX1_against_104 (by decide) ?_
          exact ih30 (i) _ _ _ _ _ _ (by omega) ⟨i, lv_sub hl [0, 2, 3, 4] rfl, by omega, rfl, he.trans (by rw [lsL_take hil]; exact if_neg (by rw [hq]; decide)), rfl, rfl, rfl⟩ hR hS
        · refine lv_aload_n hx hb dX1_against_66 rfl (lv_at hl 4 rfl) ?_
          refine lv_aload hx hb dX1_against_67 (lv_at hl 0 rfl) ?_
          refine g_ki (g_V (As := [_]) M hR hS (c_X1_rankOf l K h hoi) (lw_V q902 q903 q904 q61 q905) 1 md_X1_rankOf rfl ⟨rfl, rfl⟩ ⟨Nat.le_of_ble_eq_true rfl, Nat.le_of_ble_eq_true rfl⟩ (hR.recv M h.obj rfl) rfl hl.1 rfl (lv_room (Nat.le_of_ble_eq_true rfl)) dX1_against_69 ⟨(by first | exact Nat.le_refl _ | exact Nat.zero_le _ | (dsimp only; omega)), (by first | exact Nat.le_refl _ | exact Nat.zero_le _ | (dsimp only; omega))⟩) hS (fun r69 G69 H locs hp69 hR hS => ?_)
          obtain ⟨rfl, e69⟩ := hp69
          rw [e69] at hR
          refine lv_aload_n hx hb dX1_against_72 rfl (lv_at hl 4 rfl) ?_
          refine lv_aload_n hx hb dX1_against_73 rfl (lv_at hl 3 rfl) ?_
          refine g_ki (g_V (As := [_]) M hR hS (c_X1_rankOf l K h hr9) (lw_V q902 q903 q904 q61 q905) 1 md_X1_rankOf rfl ⟨rfl, rfl⟩ ⟨Nat.le_of_ble_eq_true rfl, Nat.le_of_ble_eq_true rfl⟩ (hR.recv M h.obj rfl) rfl hl.1 rfl (lv_room (Nat.le_of_ble_eq_true rfl)) dX1_against_74 ⟨(by first | exact Nat.le_refl _ | exact Nat.zero_le _ | (dsimp only; omega)), (by first | exact Nat.le_refl _ | exact Nat.zero_le _ | (dsimp only; omega))⟩) hS (fun r74 G74 H locs hp74 hR hS => ?_)
          obtain ⟨rfl, e74⟩ := hp74
          rw [e74] at hR
          refine lv_icmp_ne (tgt := 101) hx hb dX1_against_77 (by decide) (fun c77 => ?_) (fun c77 => ?_)
          · have hq : fAq F N r9 (fStk F (nI w) N)[i] = false := by unfold fAq; rw [decide_eq_false c77, Bool.and_false]; rfl
            refine lv_iinc (v := _) (lv' := [(4, _), (5, _), (3, _), (2, _), (0, _)]) hx hb dX1_against_101 hl (k := 1) rfl (dn_dec _) (by decide) rfl (fun ls hl => ?_)
            refine lv_goto (tgt := 30) hx hb dX1_against_104 (by decide) ?_
            exact ih30 (i) _ _ _ _ _ _ (by omega) ⟨i, lv_sub hl [0, 2, 3, 4] rfl, by omega, rfl, he.trans (by rw [lsL_take hil]; exact if_neg (by rw [hq]; decide)), rfl, rfl, rfl⟩ hR hS
          · refine lv_aload_n hx hb dX1_against_80 rfl (lv_at hl 4 rfl) ?_
            refine lv_aload_n hx hb dX1_against_81 rfl (lv_at hl 4 rfl) ?_
            refine lv_aload hx hb dX1_against_82 (lv_at hl 0 rfl) ?_
            refine g_kf (g_V (As := [_]) M hR hS (c_X1_valueOf_2 l K h ok hoi) (lw_V q958 q942 q943 q61 q944) 1 md_X1_valueOf_2 rfl ⟨rfl, rfl⟩ ⟨Nat.le_of_ble_eq_true rfl, Nat.le_of_ble_eq_true rfl⟩ (hR.recv M h.obj rfl) rfl hl.1 rfl (lv_room (Nat.le_of_ble_eq_true rfl)) dX1_against_84 ⟨(by first | exact Nat.le_refl _ | exact Nat.zero_le _ | (dsimp only; omega)), (by first | exact Nat.le_refl _ | exact Nat.zero_le _ | (dsimp only; omega))⟩) hS (fun r84 G84 H locs hp84 hR hS => ?_)
            obtain ⟨rfl, e84⟩ := hp84
            rw [e84] at hR
            refine lv_aload_n hx hb dX1_against_87 rfl (lv_at hl 4 rfl) ?_
            refine lv_aload_n hx hb dX1_against_88 rfl (lv_at hl 3 rfl) ?_
            refine g_kf (g_V (As := [_]) M hR hS (c_X1_valueOf_2 l K h ok hr9) (lw_V q958 q942 q943 q61 q944) 1 md_X1_valueOf_2 rfl ⟨rfl, rfl⟩ ⟨Nat.le_of_ble_eq_true rfl, Nat.le_of_ble_eq_true rfl⟩ (hR.recv M h.obj rfl) rfl hl.1 rfl (lv_room (Nat.le_of_ble_eq_true rfl)) dX1_against_89 ⟨(by first | exact Nat.le_refl _ | exact Nat.zero_le _ | (dsimp only; omega)), (by first | exact Nat.le_refl _ | exact Nat.zero_le _ | (dsimp only; omega))⟩) hS (fun r89 G89 H locs hp89 hR hS => ?_)
            obtain ⟨rfl, e89⟩ := hp89
            rw [e89] at hR
            refine g_ki (g_V (As := [_, _]) M hR hS (c_X1_differ l K h _ _ (fun v hv => fB_30 (fVo_b ok hoi hv)) (fun v hv => fB_30 (fVo_b ok hr9 hv))) (lw_V q959 q960 q961 q61 q962) 2 md_X1_differ rfl ⟨rfl, rfl⟩ ⟨Nat.le_of_ble_eq_true rfl, Nat.le_of_ble_eq_true rfl⟩ (hR.recv M h.obj rfl) rfl hl.1 rfl (lv_room (Nat.le_of_ble_eq_true rfl)) dX1_against_92 ⟨(by first | exact Nat.le_refl _ | exact Nat.zero_le _ | (dsimp only; omega)), (by first | exact Nat.le_refl _ | exact Nat.zero_le _ | (dsimp only; omega))⟩) hS (fun r92 G92 H locs hp92 hR hS => ?_)
            obtain ⟨rfl, e92⟩ := hp92
            rw [e92] at hR
            refine lv_if_eq (tgt := 101) hx hb dX1_against_95 (by decide) (fun c95 => ?_) (fun c95 => ?_)
            · have hq : fAq F N r9 (fStk F (nI w) N)[i] = false := by unfold fAq; rw [bI_0.mp c95, Bool.and_false]
              refine lv_iinc (v := _) (lv' := [(4, _), (5, _), (3, _), (2, _), (0, _)]) hx hb dX1_against_101 hl (k := 1) rfl (dn_dec _) (by decide) rfl (fun ls hl => ?_)
              refine lv_goto (tgt := 30) hx hb dX1_against_104 (by decide) ?_
              exact ih30 (i) _ _ _ _ _ _ (by omega) ⟨i, lv_sub hl [0, 2, 3, 4] rfl, by omega, rfl, he.trans (by rw [lsL_take hil]; exact if_neg (by rw [hq]; decide)), rfl, rfl, rfl⟩ hR hS
            · have hq : fAq F N r9 (fStk F (nI w) N)[i] = true := by unfold fAq; rw [decide_eq_false c63, decide_eq_true c77, bI_n0.mp c95]; rfl
              refine lv_aload hx hb dX1_against_98 (lv_at hl 0 rfl) ?_
              exact g_qret M hr (Or.inl ⟨_, rfl⟩) hlk (some _) rfl hR hS (by omega) (by omega) dX1_against_100 (⟨by unfold fCf; rw [hr5]; show _ = (fLast (fAg F N (nI w) r9) N).map x; rw [ag_stk ok hr9, he, lsL_take hil, if_pos hq]; rfl, rfl⟩)
