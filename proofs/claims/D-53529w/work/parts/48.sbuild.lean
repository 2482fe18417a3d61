/-! THE JDK: texts (rows printed by tools/p48.py) -/
theorem md_J9_length : gMd yJ9_length 1 := by
  unfold gMd
  decide +kernel
set_option maxHeartbeats 4000000 in
set_option maxRecDepth 100000 in
theorem c_J9_length (l : Launch) (K : gK) {G : gG} {arr cap : Nat} {f : Nat → Int32} (he : G arr = some (.inl (.inl (kC K 3, (cap, .inl f))))) (hc : cap ≤ 1000) : Met l yJ9_length (ws_ yJ9_length cJ9_length 1 (Option.some Jvm.ClassFile.FieldType.int)) (gRm 0 0 0 0) (gPre K [.ref arr] G) (gQi K (fun r G1 => r = nI (cap / 2) ∧ G1 = G)) 0 0 (gA K) := by
  refine g_met (by decide) (Nat.le_of_ble_eq_true rfl) ?_
  intro p e s m below meth c M hr hlk hnm hR ls hl
  have M : gM K p s m _ c cJ9_length 1 RJ9 := M
  have hx := M.hx
  have hb := M.hb
  have hS : va_S (gA K) s.heap s.heap [] := va_S.rf
  have hl : lv_has ls 1 [(0, .ref arr)] := hl
  refine lv_aload_n hx hb dJ9_length_0 rfl (lv_at hl 0 rfl) ?_
  refine g_alen M hR he 3 rfl dJ9_length_1 ?_
  refine lv_iconst (v := (1 : Int32)) hx hb dJ9_length_2 (by decide) ?_
  refine lv_ishr hx hb dJ9_length_3 ?_
  exact g_iret M hr hlk hR hS (by omega) (by omega) dJ9_length_4 (⟨tx_shr _ (by omega), rfl⟩)

theorem md_J12_canEncode : gMd yJ12_canEncode 1 := by
  unfold gMd
  decide +kernel
set_option maxHeartbeats 4000000 in
set_option maxRecDepth 100000 in
theorem c_J12_canEncode (l : Launch) (K : gK) {G : gG} (x : Nat) (hx9 : x < 65536) : Met l yJ12_canEncode (ws_ yJ12_canEncode cJ12_canEncode 1 (Option.some Jvm.ClassFile.FieldType.boolean)) (gRm 0 0 0 0) (gPre K [.int (nI x)] G) (gQi K (fun r G1 => r = bI (decide (x < 256)) ∧ G1 = G)) 0 0 (gA K) := by
  refine g_met (by decide) (Nat.le_of_ble_eq_true rfl) ?_
  intro p e s m below meth c M hr hlk hnm hR ls hl
  have M : gM K p s m _ c cJ12_canEncode 1 RJ12 := M
  have hx := M.hx
  have hb := M.hb
  have hS : va_S (gA K) s.heap s.heap [] := va_S.rf
  have hl : lv_has ls 1 [(0, .int (nI x))] := hl
  refine lv_iload_n hx hb dJ12_canEncode_0 rfl (lv_at hl 0 rfl) ?_
  refine lv_sipush (v := (255 : Int32)) hx hb dJ12_canEncode_1 (by decide) ?_
  refine lv_icmp_gt (tgt := 11) hx hb dJ12_canEncode_4 (by decide) (fun c4 => ?_) (fun c4 => ?_)
  · refine lv_iconst (v := (0 : Int32)) hx hb dJ12_canEncode_11 (by decide) ?_
    exact g_zret M hr hlk (by first | rfl | exact bI_nar _) hR hS (by omega) (by omega) dJ12_canEncode_12 (⟨by rw [decide_eq_false (by have := (nI_ltI (a := 255) (by decide) (by omega)).mp c4; omega)]; rfl, rfl⟩)
  · refine lv_iconst (v := (1 : Int32)) hx hb dJ12_canEncode_7 (by decide) ?_
    refine lv_goto (tgt := 12) hx hb dJ12_canEncode_8 (by decide) ?_
    exact g_zret M hr hlk (by first | rfl | exact bI_nar _) hR hS (by omega) (by omega) dJ12_canEncode_12 (⟨by rw [decide_eq_true (by have : ¬ 255 < x := fun z => c4 ((nI_ltI (a := 255) (by decide) (by omega)).mpr z); omega)]; rfl, rfl⟩)

theorem md_J6_isLatin1 : gMd yJ6_isLatin1 0 := by
  unfold gMd
  decide +kernel
set_option maxHeartbeats 4000000 in
set_option maxRecDepth 100000 in
theorem c_J6_isLatin1 (l : Launch) (K : gK) {G : gG} {a arr n cap : Nat} {ml : Int32} {f : Nat → Int32}  : Met l yJ6_isLatin1 (ws_ yJ6_isLatin1 cJ6_isLatin1 1 (Option.some Jvm.ClassFile.FieldType.boolean)) (gRm 0 0 0 0) (gPre K [.ref a] (gOT K G a 0 ml arr n cap f)) (gQi K (fun r G1 => r = bI true ∧ G1 = (gOT K G a 0 ml arr n cap f))) 0 0 (gA K) := by
  refine g_met (by decide) (Nat.le_of_ble_eq_true rfl) ?_
  intro p e s m below meth c M hr hlk hnm hR ls hl
  have M : gM K p s m _ c cJ6_isLatin1 1 RJ6 := M
  have hx := M.hx
  have hb := M.hb
  have hS : va_S (gA K) s.heap s.heap [] := va_S.rf
  have hl : lv_has ls 1 [(0, .ref a)] := hl
  refine g_gets M hS M.2.2.2.1 q225 (fun x h => h) dJ6_isLatin1_0 ?_
  refine lv_if_eq (tgt := 17) hx hb dJ6_isLatin1_3 (by decide) (fun c3 => absurd c3 (by decide)) (fun c3 => ?_)
  refine lv_aload_n hx hb dJ6_isLatin1_6 rfl (lv_at hl 0 rfl) ?_
  refine g_get (C := RJ7) (T := TJ7) (N := 4) M hR gOT_a rfl in_J7 1 (by decide) q235 (fun x h => h) rfl dJ6_isLatin1_7 ?_
  refine lv_if_ne (tgt := 17) hx hb dJ6_isLatin1_10 (by decide) (fun c10 => absurd c10 (by decide)) (fun c10 => ?_)
  refine lv_iconst (v := (1 : Int32)) hx hb dJ6_isLatin1_13 (by decide) ?_
  refine lv_goto (tgt := 18) hx hb dJ6_isLatin1_14 (by decide) ?_
  exact g_zret M hr hlk (by first | rfl | exact bI_nar _) hR hS (by omega) (by omega) dJ6_isLatin1_18 (⟨rfl, rfl⟩)

set_option maxHeartbeats 4000000 in
set_option maxRecDepth 100000 in
theorem c_J6_isLatin11 (l : Launch) (K : gK) {G : gG} {a arr n cap : Nat} {ml : Int32} {f : Nat → Int32}  : Met l yJ6_isLatin1 (ws_ yJ6_isLatin1 cJ6_isLatin1 1 (Option.some Jvm.ClassFile.FieldType.boolean)) (gRm 0 0 0 0) (gPre K [.ref a] (gOT K G a 1 ml arr n cap f)) (gQi K (fun r G1 => r = bI false ∧ G1 = (gOT K G a 1 ml arr n cap f))) 0 0 (gA K) := by
  refine g_met (by decide) (Nat.le_of_ble_eq_true rfl) ?_
  intro p e s m below meth c M hr hlk hnm hR ls hl
  have M : gM K p s m _ c cJ6_isLatin1 1 RJ6 := M
  have hx := M.hx
  have hb := M.hb
  have hS : va_S (gA K) s.heap s.heap [] := va_S.rf
  have hl : lv_has ls 1 [(0, .ref a)] := hl
  refine g_gets M hS M.2.2.2.1 q225 (fun x h => h) dJ6_isLatin1_0 ?_
  refine lv_if_eq (tgt := 17) hx hb dJ6_isLatin1_3 (by decide) (fun c3 => absurd c3 (by decide)) (fun c3 => ?_)
  refine lv_aload_n hx hb dJ6_isLatin1_6 rfl (lv_at hl 0 rfl) ?_
  refine g_get (C := RJ7) (T := TJ7) (N := 4) M hR gOT_a rfl in_J7 1 (by decide) q235 (fun x h => h) rfl dJ6_isLatin1_7 ?_
  refine lv_if_ne (tgt := 17) hx hb dJ6_isLatin1_10 (by decide) (fun c10 => ?_) (fun c10 => absurd c10 (by decide))
  refine lv_iconst (v := (0 : Int32)) hx hb dJ6_isLatin1_17 (by decide) ?_
  exact g_zret M hr hlk (by first | rfl | exact bI_nar _) hR hS (by omega) (by omega) dJ6_isLatin1_18 (⟨rfl, rfl⟩)

theorem md_J6_length : gMd yJ6_length 0 := by
  unfold gMd
  decide +kernel
set_option maxHeartbeats 4000000 in
set_option maxRecDepth 100000 in
theorem c_J6_length (l : Launch) (K : gK) {G : gG} {a : Nat} {cs : List Nat} (ha : G a = some (.inr (.inr cs)))  : Met l yJ6_length (ws_ yJ6_length cJ6_length 1 (Option.some Jvm.ClassFile.FieldType.int)) (gRm 0 0 0 0) (gPre K [.ref a] G) (gQi K (fun r G1 => r = nI cs.length ∧ G1 = G)) 0 0 (gA K) := by
  refine g_met (by decide) (Nat.le_of_ble_eq_true rfl) ?_
  intro p e s m below meth c M hr hlk hnm hR ls hl
  have M : gM K p s m _ c cJ6_length 1 RJ6 := M
  have hx := M.hx
  have hb := M.hb
  have hS : va_S (gA K) s.heap s.heap [] := va_S.rf
  have hl : lv_has ls 1 [(0, .ref a)] := hl
  have hRc := hR
  obtain ⟨co, ml, cap, f, arr, hok, har9, hR⟩ := hR.opnT ha
  refine lv_aload_n hx hb dJ6_length_0 rfl (lv_at hl 0 rfl) ?_
  refine g_get (C := RJ7) (T := TJ7) (N := 4) M hR gOT_a rfl in_J7 3 (by decide) q237 (fun x h => h) rfl dJ6_length_1 ?_
  have hR := hRc
  exact g_iret M hr hlk hR hS (by omega) (by omega) dJ6_length_4 (⟨rfl, rfl⟩)

theorem md_J7_length : gMd yJ7_length 0 := by
  unfold gMd
  decide +kernel
set_option maxHeartbeats 4000000 in
set_option maxRecDepth 100000 in
theorem c_J7_length (l : Launch) (K : gK) {G : gG} {a : Nat} {cs : List Nat} (ha : G a = some (.inr (.inr cs)))  : Met l yJ7_length (ws_ yJ7_length cJ7_length 1 (Option.some Jvm.ClassFile.FieldType.int)) (gRm 1 0 0 20) (gPre K [.ref a] G) (gQi K (fun r G1 => r = nI cs.length ∧ G1 = G)) 0 0 (gA K) := by
  refine g_met (by decide) (Nat.le_of_ble_eq_true rfl) ?_
  intro p e s m below meth c M hr hlk hnm hR ls hl
  have M : gM K p s m _ c cJ7_length 1 RJ7 := M
  have hx := M.hx
  have hb := M.hb
  have hS : va_S (gA K) s.heap s.heap [] := va_S.rf
  have hl : lv_has ls 1 [(0, .ref a)] := hl
  refine lv_aload_n hx hb dJ7_length_0 rfl (lv_at hl 0 rfl) ?_
  refine g_ki (g_I (As := []) M hR hS (c_J6_length l K ha) q581 q69 q579 q580 0 md_J6_length rfl ⟨rfl, rfl⟩ ⟨Nat.le_of_ble_eq_true rfl, Nat.le_of_ble_eq_true rfl⟩ rfl hl.1 rfl (lv_room (Nat.le_of_ble_eq_true rfl)) dJ7_length_1 ⟨(by first | exact Nat.le_refl _ | exact Nat.zero_le _ | (dsimp only; omega)), (by first | exact Nat.le_refl _ | exact Nat.zero_le _ | (dsimp only; omega))⟩) hS (fun r1 G1 H locs hp1 hR hS => ?_)
  obtain ⟨rfl, e1⟩ := hp1
  rw [e1] at hR
  exact g_iret M hr hlk hR hS (by omega) (by omega) dJ7_length_4 (⟨rfl, rfl⟩)
