/-! THE JDK: small methods, copies of arrays (rows printed by tools/p29.py) -/
theorem md_J0_init : gMd yJ0_init 0 := by
  unfold gMd
  decide +kernel
set_option maxHeartbeats 4000000 in
set_option maxRecDepth 100000 in
theorem c_J0_init (l : Launch) (K : gK) {G : gG} {x : Nat} : Met l yJ0_init (ws_ yJ0_init cJ0_init 1 (Option.none : Option Jvm.ClassFile.FieldType)) (gRm 1 0 0 60) (gPre K [.ref x] G) (gQv K (fun G1 => G1 = G)) 0 0 (gA K) := by
  refine g_met (by decide) (Nat.le_of_ble_eq_true rfl) ?_
  intro p e s m below meth c M hr hlk hnm hR ls hl
  have M : gM K p s m _ c cJ0_init 1 RJ0 := M
  have hx := M.hx
  have hb := M.hb
  have hS : va_S (gA K) s.heap s.heap [] := va_S.rf
  have hl : lv_has ls 1 [(0, .ref x)] := hl
  refine lv_aload_n hx hb dJ0_init_0 rfl (lv_at hl 0 rfl) ?_
  refine g_obj M hl.1 q110 q91 q92 dJ0_init_1 (Nat.le_of_ble_eq_true rfl) (Nat.le_of_ble_eq_true rfl) ?_
  exact g_vret M hr hlk hR hS (by omega) (by omega) dJ0_init_4 (rfl)

theorem md_J1_init : gMd yJ1_init 0 := by
  unfold gMd
  decide +kernel
set_option maxHeartbeats 4000000 in
set_option maxRecDepth 100000 in
theorem c_J1_init (l : Launch) (K : gK) {G : gG} {a : Nat} (ha : G a = some (.inl (.inr (8, [.int 0, .null, .int 0])))) : Met l yJ1_init (ws_ yJ1_init cJ1_init 1 (Option.none : Option Jvm.ClassFile.FieldType)) (gRm 2 0 0 80) (gPre K [.ref a] G) (gQv K (fun G1 => G1 = G)) 0 0 (gA K) := by
  refine g_met (by decide) (Nat.le_of_ble_eq_true rfl) ?_
  intro p e s m below meth c M hr hlk hnm hR ls hl
  have M : gM K p s m _ c cJ1_init 1 RJ1 := M
  have hx := M.hx
  have hb := M.hb
  have hS : va_S (gA K) s.heap s.heap [] := va_S.rf
  have hl : lv_has ls 1 [(0, .ref a)] := hl
  refine lv_aload_n hx hb dJ1_init_0 rfl (lv_at hl 0 rfl) ?_
  refine g_kv (g_I (As := []) M hR hS (c_J0_init l K ) q109 q62 q107 q108 0 md_J0_init rfl ⟨rfl, rfl⟩ ⟨Nat.le_of_ble_eq_true rfl, Nat.le_of_ble_eq_true rfl⟩ rfl hl.1 rfl (lv_room (Nat.le_of_ble_eq_true rfl)) dJ1_init_1 ⟨(by first | exact Nat.le_refl _ | exact Nat.zero_le _ | (dsimp only; omega)), (by first | exact Nat.le_refl _ | exact Nat.zero_le _ | (dsimp only; omega))⟩) hS (fun G1 H locs hp1 hR hS => ?_)
  rw [hp1] at hR
  refine lv_aload_n hx hb dJ1_init_4 rfl (lv_at hl 0 rfl) ?_
  refine lv_iconst (v := (0 : Int32)) hx hb dJ1_init_5 (by decide) ?_
  refine g_put (C := RJ2) (T := TJ2) (N := 3) M hR hS ha rfl in_J2 tyJ2 tyJ2_ok nmJ2 0 (by decide) q115 (fun x h => h) rfl rfl rfl (Nat.le_of_ble_eq_true rfl) dJ1_init_6 (fun H locs hR hS => ?_)
  rw [oU_same (by exact ha)] at hR
  exact g_vret M hr hlk hR hS (by omega) (by omega) dJ1_init_9 (rfl)

theorem md_J2_init : gMd yJ2_init 0 := by
  unfold gMd
  decide +kernel
set_option maxHeartbeats 4000000 in
set_option maxRecDepth 100000 in
theorem c_J2_init (l : Launch) (K : gK) {G : gG} {a : Nat} (hf : G a = none) : Met l yJ2_init (ws_ yJ2_init cJ2_init 1 (Option.none : Option Jvm.ClassFile.FieldType)) (gRm 3 0 0 100) (gPre K [.ref a] (oU G a (.inl (.inr (8, [.int 0, .null, .int 0]))))) (gQv K (fun G1 => G1 = oU G a (.inr (.inl [])))) 0 0 (gA K) := by
  refine g_met (by decide) (Nat.le_of_ble_eq_true rfl) ?_
  intro p e s m below meth c M hr hlk hnm hR ls hl
  have M : gM K p s m _ c cJ2_init 1 RJ2 := M
  have hx := M.hx
  have hb := M.hb
  have hS : va_S (gA K) s.heap s.heap [] := va_S.rf
  have hl : lv_has ls 1 [(0, .ref a)] := hl
  refine lv_aload_n hx hb dJ2_init_0 rfl (lv_at hl 0 rfl) ?_
  refine g_kv (g_I (As := []) M hR hS (c_J1_init l K oU_s) q106 q63 q104 q105 0 md_J1_init rfl ⟨rfl, rfl⟩ ⟨Nat.le_of_ble_eq_true rfl, Nat.le_of_ble_eq_true rfl⟩ rfl hl.1 rfl (lv_room (Nat.le_of_ble_eq_true rfl)) dJ2_init_1 ⟨(by first | exact Nat.le_refl _ | exact Nat.zero_le _ | (dsimp only; omega)), (by first | exact Nat.le_refl _ | exact Nat.zero_le _ | (dsimp only; omega))⟩) hS (fun G1 H locs hp1 hR hS => ?_)
  rw [hp1] at hR
  refine lv_aload_n hx hb dJ2_init_4 rfl (lv_at hl 0 rfl) ?_
  refine g_gets M hS M.2.2.1 q111 (fun x h => h) dJ2_init_5 ?_
  refine g_put (C := RJ2) (T := TJ2) (N := 3) M hR hS oU_s rfl in_J2 tyJ2 tyJ2_ok nmJ2 1 (by decide) q113 (fun x h => h) rfl rfl rfl (Nat.le_of_ble_eq_true rfl) dJ2_init_8 (fun H locs hR hS => ?_)
  rw [oU_uu] at hR
  have hE := hR.E
  have hae : a ≠ kE K := fun z => by rw [← z, oU_s] at hE; unfold alA at hE; cases hE
  rw [oU_n hae.symm] at hE
  have hR := gL_new hR hE hae
  exact g_vret M hr hlk hR hS (by omega) (by omega) dJ2_init_11 (rfl)

theorem md_J15_equals : gMd yJ15_equals 1 := by
  unfold gMd
  decide +kernel
set_option maxHeartbeats 4000000 in
set_option maxRecDepth 100000 in
theorem c_J15_equals (l : Launch) (K : gK) {G : gG} (x y : Nat) : Met l yJ15_equals (ws_ yJ15_equals cJ15_equals 2 (Option.some Jvm.ClassFile.FieldType.boolean)) (gRm 0 0 0 0) (gPre K [.ref x, .ref y] G) (gQi K (fun r G1 => r = bI (decide (x = y)) ∧ G1 = G)) 0 0 (gA K) := by
  refine g_metF (by decide +kernel) (Nat.le_of_ble_eq_true rfl) ?_
  intro p e s m below meth c M hr hlk hnm hR ls hl
  have M : gM K p s m _ c cJ15_equals 2 RJ15 := M
  have hx := M.hx
  have hb := M.hb
  have hS : va_S (gA K) s.heap s.heap [] := va_S.rf
  have hl : lv_has ls 2 [(0, .ref x), (1, .ref y)] := hl
  refine lv_aload_n hx hb dJ15_equals_0 rfl (lv_at hl 0 rfl) ?_
  refine lv_aload_n hx hb dJ15_equals_1 rfl (lv_at hl 1 rfl) ?_
  refine lv_acmp_ne (rx := some x) (ry := some y) (tgt := 9) hx hb dJ15_equals_2 (by decide) (fun c2 => ?_) (fun c2 => ?_)
  · have c2 : ¬ x = y := fun z => c2 (congrArg some z)
    refine lv_iconst (v := (0 : Int32)) hx hb dJ15_equals_9 (by decide) ?_
    exact g_zret M hr hlk (by first | rfl | exact bI_nar _) hR hS (by omega) (by omega) dJ15_equals_10 (⟨by rw [decide_eq_false c2]; rfl, rfl⟩)
  · have c2 : x = y := Option.some.inj c2
    refine lv_iconst (v := (1 : Int32)) hx hb dJ15_equals_5 (by decide) ?_
    refine lv_goto (tgt := 10) hx hb dJ15_equals_6 (by decide) ?_
    exact g_zret M hr hlk (by first | rfl | exact bI_nar _) hR hS (by omega) (by omega) dJ15_equals_10 (⟨by rw [decide_eq_true c2]; rfl, rfl⟩)

theorem md_J4_max : gMd yJ4_max 2 := by
  unfold gMd
  decide +kernel
set_option maxHeartbeats 4000000 in
set_option maxRecDepth 100000 in
theorem c_J4_max (l : Launch) (K : gK) {G : gG} (x y : Nat) (hx9 : x < 2 ^ 31) (hy9 : y < 2 ^ 31) : Met l yJ4_max (ws_ yJ4_max cJ4_max 2 (Option.some Jvm.ClassFile.FieldType.int)) (gRm 0 0 0 0) (gPre K [.int (nI x), .int (nI y)] G) (gQi K (fun r G1 => r = nI (max x y) ∧ G1 = G)) 0 0 (gA K) := by
  refine g_metF (by decide +kernel) (Nat.le_of_ble_eq_true rfl) ?_
  intro p e s m below meth c M hr hlk hnm hR ls hl
  have M : gM K p s m _ c cJ4_max 2 RJ4 := M
  have hx := M.hx
  have hb := M.hb
  have hS : va_S (gA K) s.heap s.heap [] := va_S.rf
  have hl : lv_has ls 2 [(0, .int (nI x)), (1, .int (nI y))] := hl
  refine lv_iload_n hx hb dJ4_max_0 rfl (lv_at hl 0 rfl) ?_
  refine lv_iload_n hx hb dJ4_max_1 rfl (lv_at hl 1 rfl) ?_
  refine lv_icmp_lt (tgt := 9) hx hb dJ4_max_2 (by decide) (fun c2 => ?_) (fun c2 => ?_)
  · refine lv_iload_n hx hb dJ4_max_9 rfl (lv_at hl 1 rfl) ?_
    exact g_iret M hr hlk hR hS (by omega) (by omega) dJ4_max_10 (⟨congrArg nI ((by have := (nI_ltI hx9 hy9).mp c2; omega)), rfl⟩)
  · refine lv_iload_n hx hb dJ4_max_5 rfl (lv_at hl 0 rfl) ?_
    refine lv_goto (tgt := 10) hx hb dJ4_max_6 (by decide) ?_
    exact g_iret M hr hlk hR hS (by omega) (by omega) dJ4_max_10 (⟨congrArg nI ((by have : ¬ x < y := fun z => c2 ((nI_ltI hx9 hy9).mpr z); omega)), rfl⟩)

theorem md_J4_min : gMd yJ4_min 2 := by
  unfold gMd
  decide +kernel
set_option maxHeartbeats 4000000 in
set_option maxRecDepth 100000 in
theorem c_J4_min (l : Launch) (K : gK) {G : gG} (x y : Nat) (hx9 : x < 2 ^ 31) (hy9 : y < 2 ^ 31) : Met l yJ4_min (ws_ yJ4_min cJ4_min 2 (Option.some Jvm.ClassFile.FieldType.int)) (gRm 0 0 0 0) (gPre K [.int (nI x), .int (nI y)] G) (gQi K (fun r G1 => r = nI (min x y) ∧ G1 = G)) 0 0 (gA K) := by
  refine g_metF (by decide +kernel) (Nat.le_of_ble_eq_true rfl) ?_
  intro p e s m below meth c M hr hlk hnm hR ls hl
  have M : gM K p s m _ c cJ4_min 2 RJ4 := M
  have hx := M.hx
  have hb := M.hb
  have hS : va_S (gA K) s.heap s.heap [] := va_S.rf
  have hl : lv_has ls 2 [(0, .int (nI x)), (1, .int (nI y))] := hl
  refine lv_iload_n hx hb dJ4_min_0 rfl (lv_at hl 0 rfl) ?_
  refine lv_iload_n hx hb dJ4_min_1 rfl (lv_at hl 1 rfl) ?_
  refine lv_icmp_gt (tgt := 9) hx hb dJ4_min_2 (by decide) (fun c2 => ?_) (fun c2 => ?_)
  · refine lv_iload_n hx hb dJ4_min_9 rfl (lv_at hl 1 rfl) ?_
    exact g_iret M hr hlk hR hS (by omega) (by omega) dJ4_min_10 (⟨congrArg nI ((by have := (nI_ltI hy9 hx9).mp c2; omega)), rfl⟩)
  · refine lv_iload_n hx hb dJ4_min_5 rfl (lv_at hl 0 rfl) ?_
    refine lv_goto (tgt := 10) hx hb dJ4_min_6 (by decide) ?_
    exact g_iret M hr hlk hR hS (by omega) (by omega) dJ4_min_10 (⟨congrArg nI ((by have : ¬ y < x := fun z => c2 ((nI_ltI hy9 hx9).mpr z); omega)), rfl⟩)

theorem md_J3_newLength : gMd yJ3_newLength 3 := by
  unfold gMd
  decide +kernel
set_option maxHeartbeats 4000000 in
set_option maxRecDepth 100000 in
theorem c_J3_newLength (l : Launch) (K : gK) {G : gG} (x y z : Nat) (h9 : x + y + z < 10000) (h1 : 0 < x + y) : Met l yJ3_newLength (ws_ yJ3_newLength cJ3_newLength 4 (Option.some Jvm.ClassFile.FieldType.int)) (gRm 1 0 0 21) (gPre K [.int (nI x), .int (nI y), .int (nI z)] G) (gQi K (fun r G1 => r = nI (x + max y z) ∧ G1 = G)) 0 0 (gA K) := by
  refine g_met (by decide) (Nat.le_of_ble_eq_true rfl) ?_
  intro p e s m below meth c M hr hlk hnm hR ls hl
  have M : gM K p s m _ c cJ3_newLength 4 RJ3 := M
  have hx := M.hx
  have hb := M.hb
  have hS : va_S (gA K) s.heap s.heap [] := va_S.rf
  have hl : lv_has ls 4 [(0, .int (nI x)), (1, .int (nI y)), (2, .int (nI z))] := hl
  refine lv_iload_n hx hb dJ3_newLength_0 rfl (lv_at hl 0 rfl) ?_
  refine lv_iload_n hx hb dJ3_newLength_1 rfl (lv_at hl 1 rfl) ?_
  refine lv_iload_n hx hb dJ3_newLength_2 rfl (lv_at hl 2 rfl) ?_
  refine g_ki (g_S (As := [_, _]) M hR hS (c_J4_max l K _ _ (by omega) (by omega)) (lw_S q151 q152 q66 q153) 2 md_J4_max ⟨rfl, rfl⟩ ⟨Nat.le_of_ble_eq_true rfl, Nat.le_of_ble_eq_true rfl⟩ rfl hl.1 rfl (lv_room (Nat.le_of_ble_eq_true rfl)) dJ3_newLength_3 ⟨(by first | exact Nat.le_refl _ | exact Nat.zero_le _ | (dsimp only; omega)), (by first | exact Nat.le_refl _ | exact Nat.zero_le _ | (dsimp only; omega))⟩) hS (fun r3 G3 H locs hp3 hR hS => ?_)
  obtain ⟨rfl, e3⟩ := hp3
  rw [e3] at hR
  refine lv_iadd hx hb dJ3_newLength_6 ?_
  refine g_topi (nI (x + max y z)) (nI_add _ _) ?_
  refine lv_istore_n (lv' := [(3, _), (0, _), (1, _), (2, _)]) hx hb dJ3_newLength_7 rfl hl (by decide) rfl (fun ls hl => ?_)
  refine lv_iconst (v := (0 : Int32)) hx hb dJ3_newLength_8 (by decide) ?_
  refine lv_iload_n hx hb dJ3_newLength_9 rfl (lv_at hl 0 rfl) ?_
  refine lv_icmp_ge (tgt := 21) hx hb dJ3_newLength_10 (by decide) (fun c10 => absurd c10 (nI_nle (by omega) (by omega))) (fun c10 => ?_)
  refine lv_iload_n hx hb dJ3_newLength_13 rfl (lv_at hl 0 rfl) ?_
  refine lv_ldc hx hb M.hown (M.hts _ q154) dJ3_newLength_14 ?_
  refine lv_icmp_gt (tgt := 21) hx hb dJ3_newLength_16 (by decide) (fun c16 => absurd c16 (fun q => absurd ((nI_ltI (a := 2147483639) (by decide) (by omega)).mp q) (by omega))) (fun c16 => ?_)
  refine lv_iload_n hx hb dJ3_newLength_19 rfl (lv_at hl 0 rfl) ?_
  exact g_iret M hr hlk hR hS (by omega) (by omega) dJ3_newLength_20 (⟨rfl, rfl⟩)

theorem md_J11_checkIndex : gMd yJ11_checkIndex 3 := by
  unfold gMd
  decide +kernel
set_option maxHeartbeats 4000000 in
set_option maxRecDepth 100000 in
theorem c_J11_checkIndex (l : Launch) (K : gK) {G : gG} (i n : Nat) (h : i < n) (hn : n < 2 ^ 31)  : Met l yJ11_checkIndex (ws_ yJ11_checkIndex cJ11_checkIndex 3 (Option.some Jvm.ClassFile.FieldType.int)) (gRm 1 0 0 60) (gPre K [.int (nI i), .int (nI n), .null] G) (gQi K (fun r G1 => r = nI i ∧ G1 = G)) 0 0 (gA K) := by
  refine g_met (by decide) (Nat.le_of_ble_eq_true rfl) ?_
  intro p e s m below meth c M hr hlk hnm hR ls hl
  have M : gM K p s m _ c cJ11_checkIndex 3 RJ11 := M
  have hx := M.hx
  have hb := M.hb
  have hS : va_S (gA K) s.heap s.heap [] := va_S.rf
  have hl : lv_has ls 3 [(0, .int (nI i)), (1, .int (nI n)), (2, .null)] := hl
  refine lv_iload_n hx hb dJ11_checkIndex_0 rfl (lv_at hl 0 rfl) ?_
  refine lv_if_lt (tgt := 9) hx hb dJ11_checkIndex_1 (by decide) (fun c1 => absurd c1 (nI_pos (by omega))) (fun c1 => ?_)
  refine lv_iload_n hx hb dJ11_checkIndex_4 rfl (lv_at hl 0 rfl) ?_
  refine lv_iload_n hx hb dJ11_checkIndex_5 rfl (lv_at hl 1 rfl) ?_
  refine lv_icmp_lt (tgt := 16) hx hb dJ11_checkIndex_6 (by decide) (fun c6 => ?_) (fun c6 => absurd c6 (not_not_intro (nI_lt h hn)))
  refine lv_iload_n hx hb dJ11_checkIndex_16 rfl (lv_at hl 0 rfl) ?_
  exact g_iret M hr hlk hR hS (by omega) (by omega) dJ11_checkIndex_17 (⟨rfl, rfl⟩)

theorem md_J10_checkIndex : gMd yJ10_checkIndex 2 := by
  unfold gMd
  decide +kernel
set_option maxHeartbeats 4000000 in
set_option maxRecDepth 100000 in
theorem c_J10_checkIndex (l : Launch) (K : gK) {G : gG} (i n : Nat) (h : i < n) (hn : n < 2 ^ 31)  : Met l yJ10_checkIndex (ws_ yJ10_checkIndex cJ10_checkIndex 2 (Option.some Jvm.ClassFile.FieldType.int)) (gRm 2 0 0 82) (gPre K [.int (nI i), .int (nI n)] G) (gQi K (fun r G1 => r = nI i ∧ G1 = G)) 0 0 (gA K) := by
  refine g_met (by decide) (Nat.le_of_ble_eq_true rfl) ?_
  intro p e s m below meth c M hr hlk hnm hR ls hl
  have M : gM K p s m _ c cJ10_checkIndex 2 RJ10 := M
  have hx := M.hx
  have hb := M.hb
  have hS : va_S (gA K) s.heap s.heap [] := va_S.rf
  have hl : lv_has ls 2 [(0, .int (nI i)), (1, .int (nI n))] := hl
  refine lv_iload_n hx hb dJ10_checkIndex_0 rfl (lv_at hl 0 rfl) ?_
  refine lv_iload_n hx hb dJ10_checkIndex_1 rfl (lv_at hl 1 rfl) ?_
  refine lv_null hx hb dJ10_checkIndex_2 ?_
  refine g_ki (g_S (As := [_, _, _]) M hR hS (c_J11_checkIndex l K _ _ h hn) (lw_S q296 q297 q75 q298) 3 md_J11_checkIndex ⟨rfl, rfl⟩ ⟨Nat.le_of_ble_eq_true rfl, Nat.le_of_ble_eq_true rfl⟩ rfl hl.1 rfl (lv_room (Nat.le_of_ble_eq_true rfl)) dJ10_checkIndex_3 ⟨(by first | exact Nat.le_refl _ | exact Nat.zero_le _ | (dsimp only; omega)), (by first | exact Nat.le_refl _ | exact Nat.zero_le _ | (dsimp only; omega))⟩) hS (fun r3 G3 H locs hp3 hR hS => ?_)
  obtain ⟨rfl, e3⟩ := hp3
  rw [e3] at hR
  exact g_iret M hr hlk hR hS (by omega) (by omega) dJ10_checkIndex_6 (⟨rfl, rfl⟩)

theorem md_J5_copyOf_2 : gMd yJ5_copyOf_2 3 := by
  unfold gMd
  decide +kernel
set_option maxHeartbeats 4000000 in
set_option maxRecDepth 100000 in
theorem c_J5_copyOf_2 (l : Launch) (K : gK) {G : gG} {arr n0 : Nat} {f : Nat → Option Nat} (he : G arr = some (.inl (alA K n0 f))) (hE : arr ≠ kE K) (n1 : Nat) (h01 : n0 ≤ n1) (h1 : 0 < n1) (hn1 : n1 < 100) (hel : ∀ i, i < n0 → ∀ y, f i = some y → gOb G y) : Met l yJ5_copyOf_2 (ws_ yJ5_copyOf_2 cJ5_copyOf_2 4 (Option.some (Jvm.ClassFile.FieldType.array (Jvm.ClassFile.FieldType.object "java/lang/Object")))) (gRm 1 1 100 60) (gPre K [.ref arr, .int (nI n1), .ref (kM K)] G) (gQq K (fun r G1 => ∃ q f2, r = some q ∧ G q = none ∧ G1 = oU G q (.inl (alA K n1 f2)) ∧ ∀ i, i < n0 → f2 i = f i)) 1 100 (gA K) := by
  refine g_met (by decide) (Nat.le_of_ble_eq_true rfl) ?_
  intro p e s m below meth c M hr hlk hnm hR ls hl
  have M : gM K p s m _ c cJ5_copyOf_2 4 RJ5 := M
  have hx := M.hx
  have hb := M.hb
  have hS : va_S (gA K) s.heap s.heap [] := va_S.rf
  have hl : lv_has ls 4 [(0, .ref arr), (1, .int (nI n1)), (2, .ref (kM K))] := hl
  refine lv_aload_n hx hb dJ5_copyOf_2_0 rfl (lv_at hl 2 rfl) ?_
  refine va_ldcM M.hx M.hb M.hown (M.hts _ q178) M.2.2.2.2.2.2.2.2.2.2.2.1 dJ5_copyOf_2_1 ?_
  refine lv_acmp_ne (rx := some (kM K)) (ry := some (kM K)) (tgt := 13) hx hb dJ5_copyOf_2_3 (by decide) (fun c3 => absurd c3 (not_not_intro rfl)) (fun c3 => ?_)
  refine lv_iload_n hx hb dJ5_copyOf_2_6 rfl (lv_at hl 1 rfl) ?_
  refine g_newq M hR hS q180 n1 rfl (by omega) (by first | exact Nat.le_refl _ | exact Nat.zero_le _ | (dsimp only; omega)) (by first | exact Nat.le_refl _ | exact Nat.zero_le _ | (dsimp only; omega)) dJ5_copyOf_2_7 (fun q7 H hn7 hR hS => ?_)
  refine lv_goto (tgt := 24) hx hb dJ5_copyOf_2_10 (by decide) ?_
  refine lv_astore_n (lv' := [(3, _), (0, _), (1, _), (2, _)]) hx hb dJ5_copyOf_2_24 rfl hl (by decide) rfl (fun ls hl => ?_)
  refine lv_aload_n hx hb dJ5_copyOf_2_25 rfl (lv_at hl 1 rfl) ?_
  refine lv_iconst (v := (0 : Int32)) hx hb dJ5_copyOf_2_26 (by decide) ?_
  refine lv_aload_n hx hb dJ5_copyOf_2_27 rfl (lv_at hl 0 rfl) ?_
  refine lv_iconst (v := (0 : Int32)) hx hb dJ5_copyOf_2_28 (by decide) ?_
  refine lv_aload_n hx hb dJ5_copyOf_2_29 rfl (lv_at hl 1 rfl) ?_
  refine g_alen M hR ((oU_n (oNn he hn7)).trans he) 4 rfl dJ5_copyOf_2_30 ?_
  refine lv_iload_n hx hb dJ5_copyOf_2_31 rfl (lv_at hl 2 rfl) ?_
  refine g_ki (g_S (As := [_, _]) M hR hS (c_J4_min l K _ _ (by omega) (by omega)) (lw_S q181 q182 q66 q183) 2 md_J4_min ⟨rfl, rfl⟩ ⟨Nat.le_of_ble_eq_true rfl, Nat.le_of_ble_eq_true rfl⟩ rfl hl.1 rfl (lv_room (Nat.le_of_ble_eq_true rfl)) dJ5_copyOf_2_32 ⟨(by first | exact Nat.le_refl _ | exact Nat.zero_le _ | (dsimp only; omega)), (by first | exact Nat.le_refl _ | exact Nat.zero_le _ | (dsimp only; omega))⟩) hS (fun r32 G32 H locs hp32 hR hS => ?_)
  obtain ⟨rfl, e32⟩ := hp32
  rw [e32] at hR
  refine g_topi (nI n0) (congrArg nI (by omega)) ?_
  refine g_cpq M hR hS hl.1 q184 q186 q185 q68 ((oU_n (oNn he hn7)).trans he) oU_s 0 0 n0 rfl rfl rfl (by omega) (by omega) (by omega) (by omega) hE (fun z => by have hE0 := hR.E; rw [← z, oU_s] at hE0; unfold alA at hE0; cases hE0; omega) (fun i hi y hy => (hel i hi y (by rw [Nat.zero_add] at hy; exact hy)).upd (gOb_ne (hel i hi y (by rw [Nat.zero_add] at hy; exact hy)) hn7)) (Nat.le_of_ble_eq_true rfl) (Nat.le_of_ble_eq_true rfl) dJ5_copyOf_2_35 (fun H locs hR hS => ?_)
  rw [oU_uu] at hR
  refine lv_aload_n hx hb dJ5_copyOf_2_38 rfl (lv_at hl 0 rfl) ?_
  exact g_qret M hr (Or.inr ⟨_, rfl⟩) hlk (some _) rfl hR hS (by omega) (by omega) dJ5_copyOf_2_39 (⟨q7, _, rfl, hn7, rfl, fun i hi => cpy0 hi⟩)

theorem md_J5_copyOf : gMd yJ5_copyOf 2 := by
  unfold gMd
  decide +kernel
set_option maxHeartbeats 4000000 in
set_option maxRecDepth 100000 in
theorem c_J5_copyOf (l : Launch) (K : gK) {G : gG} {arr n0 : Nat} {f : Nat → Option Nat} (he : G arr = some (.inl (alA K n0 f))) (hE : arr ≠ kE K) (n1 : Nat) (h01 : n0 ≤ n1) (h1 : 0 < n1) (hn1 : n1 < 100) (hel : ∀ i, i < n0 → ∀ y, f i = some y → gOb G y) : Met l yJ5_copyOf (ws_ yJ5_copyOf cJ5_copyOf 2 (Option.some (Jvm.ClassFile.FieldType.array (Jvm.ClassFile.FieldType.object "java/lang/Object")))) (gRm 2 1 100 83) (gPre K [.ref arr, .int (nI n1)] G) (gQq K (fun r G1 => ∃ q f2, r = some q ∧ G q = none ∧ G1 = oU G q (.inl (alA K n1 f2)) ∧ ∀ i, i < n0 → f2 i = f i)) 1 100 (gA K) := by
  refine g_met (by decide) (Nat.le_of_ble_eq_true rfl) ?_
  intro p e s m below meth c M hr hlk hnm hR ls hl
  have M : gM K p s m _ c cJ5_copyOf 2 RJ5 := M
  have hx := M.hx
  have hb := M.hb
  have hS : va_S (gA K) s.heap s.heap [] := va_S.rf
  have hl : lv_has ls 2 [(0, .ref arr), (1, .int (nI n1))] := hl
  refine lv_aload_n hx hb dJ5_copyOf_0 rfl (lv_at hl 0 rfl) ?_
  refine lv_iload_n hx hb dJ5_copyOf_1 rfl (lv_at hl 1 rfl) ?_
  refine lv_aload_n hx hb dJ5_copyOf_2 rfl (lv_at hl 0 rfl) ?_
  refine g_getC M hR hl.1 he q161 (Nat.le_of_ble_eq_true rfl) (Nat.le_of_ble_eq_true rfl) dJ5_copyOf_3 ?_
  refine g_kq (g_S (As := [_, _, _]) M hR hS (c_J5_copyOf_2 l K he hE n1 h01 h1 hn1 hel) (lw_S q175 q176 q67 q177) 3 md_J5_copyOf_2 ⟨rfl, rfl⟩ ⟨Nat.le_of_ble_eq_true rfl, Nat.le_of_ble_eq_true rfl⟩ rfl hl.1 rfl (lv_room (Nat.le_of_ble_eq_true rfl)) dJ5_copyOf_6 ⟨(by first | exact Nat.le_refl _ | exact Nat.zero_le _ | (dsimp only; omega)), (by first | exact Nat.le_refl _ | exact Nat.zero_le _ | (dsimp only; omega))⟩) hS (fun r6 G6 H locs hp6 hR hS => ?_)
  obtain ⟨q6, f6, rfl, hn6, rfl, hc6⟩ := hp6
  exact g_qret M hr (Or.inr ⟨_, rfl⟩) hlk (some _) rfl hR hS (by omega) (by omega) dJ5_copyOf_9 (⟨q6, f6, rfl, hn6, rfl, hc6⟩)
