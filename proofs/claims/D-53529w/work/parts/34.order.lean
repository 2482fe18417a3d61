/-! THE COMPONENT: orders (rows printed by tools/p34.py) -/
theorem md_X3_init : gMd yX3_init 5 := by
  unfold gMd
  decide +kernel
set_option maxHeartbeats 4000000 in
set_option maxRecDepth 100000 in
theorem c_X3_init (l : Launch) (K : gK) {G : gG} {a : Nat} (n p9 w : Int32) (r9 s9 : UInt32) : Met l yX3_init (ws_ yX3_init cX3_init 6 (Option.none : Option Jvm.ClassFile.FieldType)) (gRm 1 0 0 60) (gPre K [.ref a, .int n, .int p9, .int w, .float r9, .float s9] (oU G a (.inl (.inr (3, [.int 0, .int 0, .int 0, .float 0, .float 0, .int 0]))))) (gQv K (fun G1 => G1 = oU G a (.inl (.inr (3, [.int n, .int p9, .int w, .float r9, .float s9, .int 0]))))) 0 0 (gA K) := by
  refine g_met (by decide) (Nat.le_of_ble_eq_true rfl) ?_
  intro p e s m below meth c M hr hlk hnm hR ls hl
  have M : gM K p s m _ c cX3_init 6 RX3 := M
  have hx := M.hx
  have hb := M.hb
  have hS : va_S (gA K) s.heap s.heap [] := va_S.rf
  have hl : lv_has ls 6 [(0, .ref a), (1, .int n), (2, .int p9), (3, .int w), (4, .float r9), (5, .float s9)] := hl
  refine lv_aload_n hx hb dX3_init_0 rfl (lv_at hl 0 rfl) ?_
  refine g_obj M hl.1 q319 q91 q92 dX3_init_1 (Nat.le_of_ble_eq_true rfl) (Nat.le_of_ble_eq_true rfl) ?_
  refine lv_aload_n hx hb dX3_init_4 rfl (lv_at hl 0 rfl) ?_
  refine lv_iconst (v := (0 : Int32)) hx hb dX3_init_5 (by decide) ?_
  refine g_put (C := RX3) (T := TX3) (N := 6) M hR hS oU_s rfl in_X3 tyX3 tyX3_ok nmX3 5 (by decide) q347 (fun x h => h) rfl rfl rfl (Nat.le_of_ble_eq_true rfl) dX3_init_6 (fun H locs hR hS => ?_)
  refine lv_aload_n hx hb dX3_init_9 rfl (lv_at hl 0 rfl) ?_
  refine lv_iload_n hx hb dX3_init_10 rfl (lv_at hl 1 rfl) ?_
  refine g_putF (C := RX3) (T := TX3) (N := 6) M hR hS oU_s rfl in_X3 tyX3 tyX3_ok nmX3 0 (by decide) q322 (fun x h => h) rfl hnm rfl rfl rfl (Nat.le_of_ble_eq_true rfl) dX3_init_11 (fun H locs hR hS => ?_)
  refine lv_aload_n hx hb dX3_init_14 rfl (lv_at hl 0 rfl) ?_
  refine lv_iload_n hx hb dX3_init_15 rfl (lv_at hl 2 rfl) ?_
  refine g_putF (C := RX3) (T := TX3) (N := 6) M hR hS oU_s rfl in_X3 tyX3 tyX3_ok nmX3 1 (by decide) q327 (fun x h => h) rfl hnm rfl rfl rfl (Nat.le_of_ble_eq_true rfl) dX3_init_16 (fun H locs hR hS => ?_)
  refine lv_aload_n hx hb dX3_init_19 rfl (lv_at hl 0 rfl) ?_
  refine lv_iload_n hx hb dX3_init_20 rfl (lv_at hl 3 rfl) ?_
  refine g_putF (C := RX3) (T := TX3) (N := 6) M hR hS oU_s rfl in_X3 tyX3 tyX3_ok nmX3 2 (by decide) q332 (fun x h => h) rfl hnm rfl rfl rfl (Nat.le_of_ble_eq_true rfl) dX3_init_21 (fun H locs hR hS => ?_)
  refine lv_aload_n hx hb dX3_init_24 rfl (lv_at hl 0 rfl) ?_
  refine lv_fload hx hb dX3_init_25 (lv_at hl 4 rfl) ?_
  refine g_putF (C := RX3) (T := TX3) (N := 6) M hR hS oU_s rfl in_X3 tyX3 tyX3_ok nmX3 3 (by decide) q337 (fun x h => h) rfl hnm rfl rfl rfl (Nat.le_of_ble_eq_true rfl) dX3_init_27 (fun H locs hR hS => ?_)
  refine lv_aload_n hx hb dX3_init_30 rfl (lv_at hl 0 rfl) ?_
  refine lv_fload hx hb dX3_init_31 (lv_at hl 5 rfl) ?_
  refine g_put (C := RX3) (T := TX3) (N := 6) M hR hS oU_s rfl in_X3 tyX3 tyX3_ok nmX3 4 (by decide) q342 (fun x h => h) rfl rfl rfl (Nat.le_of_ble_eq_true rfl) dX3_init_33 (fun H locs hR hS => ?_)
  repeat rw [oU_uu] at hR
  exact g_vret M hr hlk hR hS (by omega) (by omega) dX3_init_36 (rfl)

set_option maxHeartbeats 4000000 in
set_option maxRecDepth 100000 in
theorem c_X3_init4 (l : Launch) (K : gK) {G : gG} {a : Nat} (n p9 w : Int32) (r9 s9 : UInt32) : Met l yX3_init (ws_ yX3_init cX3_init 6 (Option.none : Option Jvm.ClassFile.FieldType)) (gRm 1 0 0 60) (gPre K [.ref a, .int n, .int p9, .int w, .float r9, .float s9] (oU G a (.inl (.inr (4, [.int 0, .int 0, .int 0, .float 0, .float 0, .int 0, .int 0, .float 0]))))) (gQv K (fun G1 => G1 = oU G a (.inl (.inr (4, [.int n, .int p9, .int w, .float r9, .float s9, .int 0, .int 0, .float 0]))))) 0 0 (gA K) := by
  refine g_met (by decide) (Nat.le_of_ble_eq_true rfl) ?_
  intro p e s m below meth c M hr hlk hnm hR ls hl
  have M : gM K p s m _ c cX3_init 6 RX3 := M
  have hx := M.hx
  have hb := M.hb
  have hS : va_S (gA K) s.heap s.heap [] := va_S.rf
  have hl : lv_has ls 6 [(0, .ref a), (1, .int n), (2, .int p9), (3, .int w), (4, .float r9), (5, .float s9)] := hl
  refine lv_aload_n hx hb dX3_init_0 rfl (lv_at hl 0 rfl) ?_
  refine g_obj M hl.1 q319 q91 q92 dX3_init_1 (Nat.le_of_ble_eq_true rfl) (Nat.le_of_ble_eq_true rfl) ?_
  refine lv_aload_n hx hb dX3_init_4 rfl (lv_at hl 0 rfl) ?_
  refine lv_iconst (v := (0 : Int32)) hx hb dX3_init_5 (by decide) ?_
  refine g_put (C := RX4) (T := TX4) (N := 8) M hR hS oU_s rfl in_X4 tyX4 tyX4_ok nmX4 5 (by decide) q347 (fun x h => h) rfl rfl rfl (Nat.le_of_ble_eq_true rfl) dX3_init_6 (fun H locs hR hS => ?_)
  refine lv_aload_n hx hb dX3_init_9 rfl (lv_at hl 0 rfl) ?_
  refine lv_iload_n hx hb dX3_init_10 rfl (lv_at hl 1 rfl) ?_
  refine g_putF (C := RX4) (T := TX4) (N := 8) M hR hS oU_s rfl in_X4 tyX4 tyX4_ok nmX4 0 (by decide) q322 (fun x h => h) rfl hnm rfl rfl rfl (Nat.le_of_ble_eq_true rfl) dX3_init_11 (fun H locs hR hS => ?_)
  refine lv_aload_n hx hb dX3_init_14 rfl (lv_at hl 0 rfl) ?_
  refine lv_iload_n hx hb dX3_init_15 rfl (lv_at hl 2 rfl) ?_
  refine g_putF (C := RX4) (T := TX4) (N := 8) M hR hS oU_s rfl in_X4 tyX4 tyX4_ok nmX4 1 (by decide) q327 (fun x h => h) rfl hnm rfl rfl rfl (Nat.le_of_ble_eq_true rfl) dX3_init_16 (fun H locs hR hS => ?_)
  refine lv_aload_n hx hb dX3_init_19 rfl (lv_at hl 0 rfl) ?_
  refine lv_iload_n hx hb dX3_init_20 rfl (lv_at hl 3 rfl) ?_
  refine g_putF (C := RX4) (T := TX4) (N := 8) M hR hS oU_s rfl in_X4 tyX4 tyX4_ok nmX4 2 (by decide) q332 (fun x h => h) rfl hnm rfl rfl rfl (Nat.le_of_ble_eq_true rfl) dX3_init_21 (fun H locs hR hS => ?_)
  refine lv_aload_n hx hb dX3_init_24 rfl (lv_at hl 0 rfl) ?_
  refine lv_fload hx hb dX3_init_25 (lv_at hl 4 rfl) ?_
  refine g_putF (C := RX4) (T := TX4) (N := 8) M hR hS oU_s rfl in_X4 tyX4 tyX4_ok nmX4 3 (by decide) q337 (fun x h => h) rfl hnm rfl rfl rfl (Nat.le_of_ble_eq_true rfl) dX3_init_27 (fun H locs hR hS => ?_)
  refine lv_aload_n hx hb dX3_init_30 rfl (lv_at hl 0 rfl) ?_
  refine lv_fload hx hb dX3_init_31 (lv_at hl 5 rfl) ?_
  refine g_put (C := RX4) (T := TX4) (N := 8) M hR hS oU_s rfl in_X4 tyX4 tyX4_ok nmX4 4 (by decide) q342 (fun x h => h) rfl rfl rfl (Nat.le_of_ble_eq_true rfl) dX3_init_33 (fun H locs hR hS => ?_)
  repeat rw [oU_uu] at hR
  exact g_vret M hr hlk hR hS (by omega) (by omega) dX3_init_36 (rfl)

theorem md_X4_init : gMd yX4_init 7 := by
  unfold gMd
  decide +kernel
set_option maxHeartbeats 4000000 in
set_option maxRecDepth 100000 in
theorem c_X4_init (l : Launch) (K : gK) {G : gG} {a : Nat} (n p9 w u : Int32) (f9 r9 s9 : UInt32) : Met l yX4_init (ws_ yX4_init cX4_init 8 (Option.none : Option Jvm.ClassFile.FieldType)) (gRm 2 0 0 85) (gPre K [.ref a, .int n, .int p9, .int w, .int u, .float f9, .float r9, .float s9] (oU G a (.inl (.inr (4, [.int 0, .int 0, .int 0, .float 0, .float 0, .int 0, .int 0, .float 0]))))) (gQv K (fun G1 => G1 = oU G a (.inl (.inr (4, [.int n, .int p9, .int w, .float r9, .float s9, .int 0, .int u, .float f9]))))) 0 0 (gA K) := by
  refine g_met (by decide) (Nat.le_of_ble_eq_true rfl) ?_
  intro p e s m below meth c M hr hlk hnm hR ls hl
  have M : gM K p s m _ c cX4_init 8 RX4 := M
  have hx := M.hx
  have hb := M.hb
  have hS : va_S (gA K) s.heap s.heap [] := va_S.rf
  have hl : lv_has ls 8 [(0, .ref a), (1, .int n), (2, .int p9), (3, .int w), (4, .int u), (5, .float f9), (6, .float r9), (7, .float s9)] := hl
  refine lv_aload_n hx hb dX4_init_0 rfl (lv_at hl 0 rfl) ?_
  refine lv_iload_n hx hb dX4_init_1 rfl (lv_at hl 1 rfl) ?_
  refine lv_iload_n hx hb dX4_init_2 rfl (lv_at hl 2 rfl) ?_
  refine lv_iload_n hx hb dX4_init_3 rfl (lv_at hl 3 rfl) ?_
  refine lv_fload hx hb dX4_init_4 (lv_at hl 6 rfl) ?_
  refine lv_fload hx hb dX4_init_6 (lv_at hl 7 rfl) ?_
  refine g_kv (g_I (As := [_, _, _, _, _]) M hR hS (c_X3_init4 l K _ _ _ _ _) q318 q76 q316 q317 5 md_X3_init rfl ⟨rfl, rfl⟩ ⟨Nat.le_of_ble_eq_true rfl, Nat.le_of_ble_eq_true rfl⟩ rfl hl.1 rfl (lv_room (Nat.le_of_ble_eq_true rfl)) dX4_init_8 ⟨(by first | exact Nat.le_refl _ | exact Nat.zero_le _ | (dsimp only; omega)), (by first | exact Nat.le_refl _ | exact Nat.zero_le _ | (dsimp only; omega))⟩) hS (fun G8 H locs hp8 hR hS => ?_)
  rw [hp8] at hR
  refine lv_aload_n hx hb dX4_init_11 rfl (lv_at hl 0 rfl) ?_
  refine lv_iload hx hb dX4_init_12 (lv_at hl 4 rfl) ?_
  refine g_putF (C := RX4) (T := TX4) (N := 8) M hR hS oU_s rfl in_X4 tyX4 tyX4_ok nmX4 6 (by decide) q320 (fun x h => h) rfl hnm rfl rfl rfl (Nat.le_of_ble_eq_true rfl) dX4_init_14 (fun H locs hR hS => ?_)
  refine lv_aload_n hx hb dX4_init_17 rfl (lv_at hl 0 rfl) ?_
  refine lv_fload hx hb dX4_init_18 (lv_at hl 5 rfl) ?_
  refine g_putF (C := RX4) (T := TX4) (N := 8) M hR hS oU_s rfl in_X4 tyX4 tyX4_ok nmX4 7 (by decide) q321 (fun x h => h) rfl hnm rfl rfl rfl (Nat.le_of_ble_eq_true rfl) dX4_init_20 (fun H locs hR hS => ?_)
  repeat rw [oU_uu] at hR
  exact g_vret M hr hlk hR hS (by omega) (by omega) dX4_init_23 (rfl)

theorem md_X3_alike : gMd yX3_alike 1 := by
  unfold gMd
  decide +kernel
set_option maxHeartbeats 4000000 in
set_option maxRecDepth 100000 in
theorem c_X3_alike (l : Launch) (K : gK) {G : gG} {a b : Nat} {n p9 w e9 n2 p2 w2 e2 : Int32} {r9 s9 r2 s2 : UInt32} (ha : G a = some (.inl (.inr (3, [.int n, .int p9, .int w, .float r9, .float s9, .int e9])))) (hb9 : G b = some (.inl (.inr (3, [.int n2, .int p2, .int w2, .float r2, .float s2, .int e2])))) : Met l yX3_alike (ws_ yX3_alike cX3_alike 2 (Option.some (Jvm.ClassFile.FieldType.object "NailedOrders$Order"))) (gRm 0 0 0 0) (gPre K [.ref a, .ref b] G) (gQq K (fun r G1 => r = some b ∧ G1 = oU G b (.inl (.inr (3, [.int n2, .int p2, .int w2, .float r2, .float s2, .int e9]))))) 0 0 (gA K) := by
  refine g_met (by decide) (Nat.le_of_ble_eq_true rfl) ?_
  intro p e s m below meth c M hr hlk hnm hR ls hl
  have M : gM K p s m _ c cX3_alike 2 RX3 := M
  have hx := M.hx
  have hb := M.hb
  have hS : va_S (gA K) s.heap s.heap [] := va_S.rf
  have hl : lv_has ls 2 [(0, .ref a), (1, .ref b)] := hl
  refine lv_aload_n hx hb dX3_alike_0 rfl (lv_at hl 1 rfl) ?_
  refine lv_aload_n hx hb dX3_alike_1 rfl (lv_at hl 0 rfl) ?_
  refine g_get (C := RX3) (T := TX3) (N := 6) M hR ha rfl in_X3 5 (by decide) q347 (fun x h => h) rfl dX3_alike_2 ?_
  refine g_put (C := RX3) (T := TX3) (N := 6) M hR hS hb9 rfl in_X3 tyX3 tyX3_ok nmX3 5 (by decide) q347 (fun x h => h) rfl rfl rfl (Nat.le_of_ble_eq_true rfl) dX3_alike_5 (fun H locs hR hS => ?_)
  refine lv_aload_n hx hb dX3_alike_8 rfl (lv_at hl 1 rfl) ?_
  exact g_qret M hr (Or.inl ⟨_, rfl⟩) hlk (some _) rfl hR hS (by omega) (by omega) dX3_alike_9 (⟨rfl, rfl⟩)

set_option maxHeartbeats 4000000 in
set_option maxRecDepth 100000 in
theorem c_X3_alike4 (l : Launch) (K : gK) {G : gG} {a b : Nat} {n p9 w e9 n2 p2 w2 e2 u u2 : Int32} {r9 s9 r2 s2 f9 f2 : UInt32} (ha : G a = some (.inl (.inr (4, [.int n, .int p9, .int w, .float r9, .float s9, .int e9, .int u, .float f9])))) (hb9 : G b = some (.inl (.inr (4, [.int n2, .int p2, .int w2, .float r2, .float s2, .int e2, .int u2, .float f2])))) : Met l yX3_alike (ws_ yX3_alike cX3_alike 2 (Option.some (Jvm.ClassFile.FieldType.object "NailedOrders$Order"))) (gRm 0 0 0 0) (gPre K [.ref a, .ref b] G) (gQq K (fun r G1 => r = some b ∧ G1 = oU G b (.inl (.inr (4, [.int n2, .int p2, .int w2, .float r2, .float s2, .int e9, .int u2, .float f2]))))) 0 0 (gA K) := by
  refine g_met (by decide) (Nat.le_of_ble_eq_true rfl) ?_
  intro p e s m below meth c M hr hlk hnm hR ls hl
  have M : gM K p s m _ c cX3_alike 2 RX3 := M
  have hx := M.hx
  have hb := M.hb
  have hS : va_S (gA K) s.heap s.heap [] := va_S.rf
  have hl : lv_has ls 2 [(0, .ref a), (1, .ref b)] := hl
  refine lv_aload_n hx hb dX3_alike_0 rfl (lv_at hl 1 rfl) ?_
  refine lv_aload_n hx hb dX3_alike_1 rfl (lv_at hl 0 rfl) ?_
  refine g_get (C := RX4) (T := TX4) (N := 8) M hR ha rfl in_X4 5 (by decide) q347 (fun x h => h) rfl dX3_alike_2 ?_
  refine g_put (C := RX4) (T := TX4) (N := 8) M hR hS hb9 rfl in_X4 tyX4 tyX4_ok nmX4 5 (by decide) q347 (fun x h => h) rfl rfl rfl (Nat.le_of_ble_eq_true rfl) dX3_alike_5 (fun H locs hR hS => ?_)
  refine lv_aload_n hx hb dX3_alike_8 rfl (lv_at hl 1 rfl) ?_
  exact g_qret M hr (Or.inl ⟨_, rfl⟩) hlk (some _) rfl hR hS (by omega) (by omega) dX3_alike_9 (⟨rfl, rfl⟩)

theorem md_X3_copy : gMd yX3_copy 0 := by
  unfold gMd
  decide +kernel
set_option maxHeartbeats 4000000 in
set_option maxRecDepth 100000 in
theorem c_X3_copy (l : Launch) (K : gK) {G : gG} {a o : Nat} {F E : Nat → Int32} (he : G a = some (.inl (oE F E o))) (h5 : fo F o 2 = -5) : Met l yX3_copy (ws_ yX3_copy cX3_copy 1 (Option.some (Jvm.ClassFile.FieldType.object "NailedOrders$Order"))) (gRm 2 1 8 85) (gPre K [.ref a] G) (gQq K (fun r G1 => ∃ q, r = some q ∧ G q = none ∧ G1 = oU G q (.inl (oE F E o)))) 1 8 (gA K) := by
  refine g_met (by decide) (Nat.le_of_ble_eq_true rfl) ?_
  intro p e s m below meth c M hr hlk hnm hR ls hl
  have M : gM K p s m _ c cX3_copy 1 RX3 := M
  have hx := M.hx
  have hb := M.hb
  have hS : va_S (gA K) s.heap s.heap [] := va_S.rf
  have hl : lv_has ls 1 [(0, .ref a)] := hl
  have he0 : G a = some (.inl (.inr (3, oL F E o))) := he.trans (congrArg (fun z => some (Sum.inl z)) (oE_3 h5))
  have hE : ∀ z : gE, _ := fun _ => he0
  refine lv_aload_n hx hb dX3_copy_0 rfl (lv_at hl 0 rfl) ?_
  refine g_new (ci := 3) (C := RX3) (T := TX3) (N := 6) (fs := [.int 0, .int 0, .int 0, .float 0, .float 0, .int 0]) M hR hS in_X3 tyX3 tyX3_ok q374 q375 q76 rfl (by intro j hj; rcases (by omega : j = 0 ∨ j = 1 ∨ j = 2 ∨ j = 3 ∨ j = 4 ∨ j = 5) with z | z | z | z | z | z <;> subst z <;> rfl) (by first | exact Nat.le_refl _ | exact Nat.zero_le _ | (dsimp only; omega)) (by first | exact Nat.le_refl _ | exact Nat.zero_le _ | (dsimp only; omega)) dX3_copy_1 (fun q1 H hn1 hR hS => ?_)
  have hE : ∀ z : gE, oU G q1 z a = _ := fun z => (oU_n (oNn he0 hn1)).trans he0
  refine lv_dup hx hb dX3_copy_4 rfl ?_
  refine lv_aload_n hx hb dX3_copy_5 rfl (lv_at hl 0 rfl) ?_
  refine g_get (C := RX3) (T := TX3) (N := 6) M hR (hE _) rfl in_X3 0 (by decide) q322 (fun x h => h) rfl dX3_copy_6 ?_
  refine lv_aload_n hx hb dX3_copy_9 rfl (lv_at hl 0 rfl) ?_
  refine g_get (C := RX3) (T := TX3) (N := 6) M hR (hE _) rfl in_X3 1 (by decide) q327 (fun x h => h) rfl dX3_copy_10 ?_
  refine lv_aload_n hx hb dX3_copy_13 rfl (lv_at hl 0 rfl) ?_
  refine g_get (C := RX3) (T := TX3) (N := 6) M hR (hE _) rfl in_X3 2 (by decide) q332 (fun x h => h) rfl dX3_copy_14 ?_
  refine lv_aload_n hx hb dX3_copy_17 rfl (lv_at hl 0 rfl) ?_
  refine g_get (C := RX3) (T := TX3) (N := 6) M hR (hE _) rfl in_X3 3 (by decide) q337 (fun x h => h) rfl dX3_copy_18 ?_
  refine lv_aload_n hx hb dX3_copy_21 rfl (lv_at hl 0 rfl) ?_
  refine g_get (C := RX3) (T := TX3) (N := 6) M hR (hE _) rfl in_X3 4 (by decide) q342 (fun x h => h) rfl dX3_copy_22 ?_
  refine g_kv (g_I (As := [_, _, _, _, _]) M hR hS (c_X3_init l K _ _ _ _ _) q318 q76 q376 q317 5 md_X3_init rfl ⟨rfl, rfl⟩ ⟨Nat.le_of_ble_eq_true rfl, Nat.le_of_ble_eq_true rfl⟩ rfl hl.1 rfl (lv_room (Nat.le_of_ble_eq_true rfl)) dX3_copy_25 ⟨(by first | exact Nat.le_refl _ | exact Nat.zero_le _ | (dsimp only; omega)), (by first | exact Nat.le_refl _ | exact Nat.zero_le _ | (dsimp only; omega))⟩) hS (fun G25 H locs hp25 hR hS => ?_)
  rw [hp25] at hR
  have hE : ∀ z : gE, oU G q1 z a = _ := fun z => (oU_n (oNn he0 hn1)).trans he0
  refine g_kq (g_V (As := [_]) M hR hS (c_X3_alike l K (e9 := E o) (hE _) oU_s) (lw_V q384 q371 q1374 q76 q372) 1 md_X3_alike rfl ⟨rfl, rfl⟩ ⟨Nat.le_of_ble_eq_true rfl, Nat.le_of_ble_eq_true rfl⟩ (hR.recv M (hE _) rfl) rfl hl.1 rfl (lv_room (Nat.le_of_ble_eq_true rfl)) dX3_copy_28 ⟨(by first | exact Nat.le_refl _ | exact Nat.zero_le _ | (dsimp only; omega)), (by first | exact Nat.le_refl _ | exact Nat.zero_le _ | (dsimp only; omega))⟩) hS (fun r28 G28 H locs hp28 hR hS => ?_)
  obtain ⟨rfl, e28⟩ := hp28
  rw [e28] at hR
  rw [oU_uu] at hR
  exact g_qret M hr (Or.inl ⟨_, rfl⟩) hlk (some _) rfl hR hS (by omega) (by omega) dX3_copy_31 (⟨q1, rfl, hn1, congrArg (fun z => oU G q1 (Sum.inl z)) (oE_3 h5).symm⟩)

theorem md_X4_copy : gMd yX4_copy 0 := by
  unfold gMd
  decide +kernel
set_option maxHeartbeats 4000000 in
set_option maxRecDepth 100000 in
theorem c_X4_copy (l : Launch) (K : gK) {G : gG} {a o : Nat} {F E : Nat → Int32} (he : G a = some (.inl (oE F E o))) (h5 : ¬ fo F o 2 = -5) : Met l yX4_copy (ws_ yX4_copy cX4_copy 1 (Option.some (Jvm.ClassFile.FieldType.object "NailedOrders$Order"))) (gRm 3 1 8 112) (gPre K [.ref a] G) (gQq K (fun r G1 => ∃ q, r = some q ∧ G q = none ∧ G1 = oU G q (.inl (oE F E o)))) 1 8 (gA K) := by
  refine g_met (by decide) (Nat.le_of_ble_eq_true rfl) ?_
  intro p e s m below meth c M hr hlk hnm hR ls hl
  have M : gM K p s m _ c cX4_copy 1 RX4 := M
  have hx := M.hx
  have hb := M.hb
  have hS : va_S (gA K) s.heap s.heap [] := va_S.rf
  have hl : lv_has ls 1 [(0, .ref a)] := hl
  have he0 : G a = some (.inl (.inr (4, oL F E o ++ [.int (fo F o 2), .float (fFc F o)]))) := he.trans (congrArg (fun z => some (Sum.inl z)) (oE_4 h5))
  have hE : ∀ z : gE, _ := fun _ => he0
  refine lv_aload_n hx hb dX4_copy_0 rfl (lv_at hl 0 rfl) ?_
  refine g_new (ci := 4) (C := RX4) (T := TX4) (N := 8) (fs := [.int 0, .int 0, .int 0, .float 0, .float 0, .int 0, .int 0, .float 0]) M hR hS in_X4 tyX4 tyX4_ok q311 q312 q77 rfl (by intro j hj; rcases (by omega : j = 0 ∨ j = 1 ∨ j = 2 ∨ j = 3 ∨ j = 4 ∨ j = 5 ∨ j = 6 ∨ j = 7) with z | z | z | z | z | z | z | z <;> subst z <;> rfl) (by first | exact Nat.le_refl _ | exact Nat.zero_le _ | (dsimp only; omega)) (by first | exact Nat.le_refl _ | exact Nat.zero_le _ | (dsimp only; omega)) dX4_copy_1 (fun q1 H hn1 hR hS => ?_)
  have hE : ∀ z : gE, oU G q1 z a = _ := fun z => (oU_n (oNn he0 hn1)).trans he0
  refine lv_dup hx hb dX4_copy_4 rfl ?_
  refine lv_aload_n hx hb dX4_copy_5 rfl (lv_at hl 0 rfl) ?_
  refine g_get (C := RX4) (T := TX4) (N := 8) M hR (hE _) rfl in_X4 0 (by decide) q324 (fun x h => u_same (M.hts _ q325) x h) rfl dX4_copy_6 ?_
  refine lv_aload_n hx hb dX4_copy_9 rfl (lv_at hl 0 rfl) ?_
  refine g_get (C := RX4) (T := TX4) (N := 8) M hR (hE _) rfl in_X4 1 (by decide) q328 (fun x h => u_same (M.hts _ q329) x h) rfl dX4_copy_10 ?_
  refine lv_aload_n hx hb dX4_copy_13 rfl (lv_at hl 0 rfl) ?_
  refine g_get (C := RX4) (T := TX4) (N := 8) M hR (hE _) rfl in_X4 2 (by decide) q333 (fun x h => u_same (M.hts _ q334) x h) rfl dX4_copy_14 ?_
  refine lv_aload_n hx hb dX4_copy_17 rfl (lv_at hl 0 rfl) ?_
  refine g_get (C := RX4) (T := TX4) (N := 8) M hR (hE _) rfl in_X4 6 (by decide) q320 (fun x h => h) rfl dX4_copy_18 ?_
  refine lv_aload_n hx hb dX4_copy_21 rfl (lv_at hl 0 rfl) ?_
  refine g_get (C := RX4) (T := TX4) (N := 8) M hR (hE _) rfl in_X4 7 (by decide) q321 (fun x h => h) rfl dX4_copy_22 ?_
  refine lv_aload_n hx hb dX4_copy_25 rfl (lv_at hl 0 rfl) ?_
  refine g_get (C := RX4) (T := TX4) (N := 8) M hR (hE _) rfl in_X4 3 (by decide) q338 (fun x h => u_same (M.hts _ q339) x h) rfl dX4_copy_26 ?_
  refine lv_aload_n hx hb dX4_copy_29 rfl (lv_at hl 0 rfl) ?_
  refine g_get (C := RX4) (T := TX4) (N := 8) M hR (hE _) rfl in_X4 4 (by decide) q343 (fun x h => u_same (M.hts _ q344) x h) rfl dX4_copy_30 ?_
  refine g_kv (g_I (As := [_, _, _, _, _, _, _]) M hR hS (c_X4_init l K _ _ _ _ _ _ _) q315 q77 q313 q314 7 md_X4_init rfl ⟨rfl, rfl⟩ ⟨Nat.le_of_ble_eq_true rfl, Nat.le_of_ble_eq_true rfl⟩ rfl hl.1 rfl (lv_room (Nat.le_of_ble_eq_true rfl)) dX4_copy_33 ⟨(by first | exact Nat.le_refl _ | exact Nat.zero_le _ | (dsimp only; omega)), (by first | exact Nat.le_refl _ | exact Nat.zero_le _ | (dsimp only; omega))⟩) hS (fun G33 H locs hp33 hR hS => ?_)
  rw [hp33] at hR
  have hE : ∀ z : gE, oU G q1 z a = _ := fun z => (oU_n (oNn he0 hn1)).trans he0
  have hd36 : ("NailedOrders$Order" : String) ≠ "java/lang/invoke/MethodHandle" ∧ ("NailedOrders$Order" : String) ≠ "java/lang/invoke/VarHandle" ∧ (parseMethodDescriptor (⟨"NailedOrders$Link", "alike", "(LNailedOrders$Order;)LNailedOrders$Order;"⟩ : MethodName).desc).map (fun d => d.parameters.length) = some 1 := ⟨by decide, by decide, md_X3_alike.2.2⟩
  refine g_kq (g_U (As := [_]) (C := "NailedOrders$Link") (owner := "NailedOrders$Order") (x := ⟨"NailedOrders$Link", "alike", "(LNailedOrders$Order;)LNailedOrders$Order;"⟩) M hR hS (c_X3_alike4 l K (e9 := E o) (hE _) oU_s) 1 (va_cwU 1 M.hts (lw_U q367 q368 q370 q371 q76 q372) rfl rfl rfl rfl hd36 ⟨Nat.le_of_ble_eq_true rfl, Nat.le_of_ble_eq_true rfl⟩) (hR.recv M (hE _) rfl) rfl hl.1 rfl (lv_room (Nat.le_of_ble_eq_true rfl)) dX4_copy_36 ⟨(by first | exact Nat.le_refl _ | exact Nat.zero_le _ | (dsimp only; omega)), (by first | exact Nat.le_refl _ | exact Nat.zero_le _ | (dsimp only; omega))⟩) hS (fun r36 G36 H locs hp36 hR hS => ?_)
  obtain ⟨rfl, e36⟩ := hp36
  rw [e36] at hR
  rw [oU_uu] at hR
  exact g_qret M hr (Or.inl ⟨_, rfl⟩) hlk (some _) rfl hR hS (by omega) (by omega) dX4_copy_39 (⟨q1, rfl, hn1, congrArg (fun z => oU G q1 (Sum.inl z)) (oE_4 h5).symm⟩)

theorem md_X3_hangs : gMd yX3_hangs 0 := by
  unfold gMd
  decide +kernel
set_option maxHeartbeats 4000000 in
set_option maxRecDepth 100000 in
theorem c_X3_hangs (l : Launch) (K : gK) {G : gG} {a o : Nat} {F E : Nat → Int32} (he : G a = some (.inl (.inr (3, oL F E o)))) : Met l yX3_hangs (ws_ yX3_hangs cX3_hangs 1 (Option.some Jvm.ClassFile.FieldType.boolean)) (gRm 0 0 0 0) (gPre K [.ref a] G) (gQi K (fun r G1 => r = bI (decide (E o = 0)) ∧ G1 = G)) 0 0 (gA K) := by
  refine g_met (by decide) (Nat.le_of_ble_eq_true rfl) ?_
  intro p e s m below meth c M hr hlk hnm hR ls hl
  have M : gM K p s m _ c cX3_hangs 1 RX3 := M
  have hx := M.hx
  have hb := M.hb
  have hS : va_S (gA K) s.heap s.heap [] := va_S.rf
  have hl : lv_has ls 1 [(0, .ref a)] := hl
  refine lv_aload_n hx hb dX3_hangs_0 rfl (lv_at hl 0 rfl) ?_
  refine g_get (C := RX3) (T := TX3) (N := 6) M hR he rfl in_X3 5 (by decide) q347 (fun x h => h) rfl dX3_hangs_1 ?_
  refine lv_if_ne (tgt := 11) hx hb dX3_hangs_4 (by decide) (fun c4 => ?_) (fun c4 => ?_)
  · refine lv_iconst (v := (0 : Int32)) hx hb dX3_hangs_11 (by decide) ?_
    exact g_zret M hr hlk (by first | rfl | exact bI_nar _) hR hS (by omega) (by omega) dX3_hangs_12 (⟨by rw [decide_eq_false c4]; rfl, rfl⟩)
  · refine lv_iconst (v := (1 : Int32)) hx hb dX3_hangs_7 (by decide) ?_
    refine lv_goto (tgt := 12) hx hb dX3_hangs_8 (by decide) ?_
    exact g_zret M hr hlk (by first | rfl | exact bI_nar _) hR hS (by omega) (by omega) dX3_hangs_12 (⟨by rw [decide_eq_true c4]; rfl, rfl⟩)

theorem md_X3_hundredths : gMd yX3_hundredths 0 := by
  unfold gMd
  decide +kernel
set_option maxHeartbeats 4000000 in
set_option maxRecDepth 100000 in
theorem c_X3_hundredths (l : Launch) (K : gK) {G : gG} {a o : Nat} {F E : Nat → Int32} (he : G a = some (.inl (.inr (3, oL F E o)))) (hbb : fB (fSg F o) (16 * fU)) : Met l yX3_hundredths (ws_ yX3_hundredths cX3_hundredths 1 (Option.some Jvm.ClassFile.FieldType.int)) (gRm 0 0 0 0) (gPre K [.ref a] G) (gQi K (fun r G1 => r = FP.f2i (FP.fmul (fSg F o) 1120403456) ∧ G1 = G)) 0 0 (gA K) := by
  refine g_met (by decide) (Nat.le_of_ble_eq_true rfl) ?_
  intro p e s m below meth c M hr hlk hnm hR ls hl
  have M : gM K p s m _ c cX3_hundredths 1 RX3 := M
  have hx := M.hx
  have hb := M.hb
  have hS : va_S (gA K) s.heap s.heap [] := va_S.rf
  have hl : lv_has ls 1 [(0, .ref a)] := hl
  refine lv_aload_n hx hb dX3_hundredths_0 rfl (lv_at hl 0 rfl) ?_
  refine g_get (C := RX3) (T := TX3) (N := 6) M hR he rfl in_X3 4 (by decide) q342 (fun x h => h) rfl dX3_hundredths_1 ?_
  refine lv_ldcf hx hb M.hown (M.hts _ q542) dX3_hundredths_4 ?_
  refine lv_fmul hx hb dX3_hundredths_6 (hund_B hbb) ?_
  refine lv_f2i hx hb dX3_hundredths_7 ?_
  exact g_iret M hr hlk hR hS (by omega) (by omega) dX3_hundredths_8 (⟨rfl, rfl⟩)

set_option maxHeartbeats 4000000 in
set_option maxRecDepth 100000 in
theorem c_X3_hangs4 (l : Launch) (K : gK) {G : gG} {a o : Nat} {F E : Nat → Int32} {u9 : Int32} {f9 : UInt32} (he : G a = some (.inl (.inr (4, oL F E o ++ [.int u9, .float f9])))) : Met l yX3_hangs (ws_ yX3_hangs cX3_hangs 1 (Option.some Jvm.ClassFile.FieldType.boolean)) (gRm 0 0 0 0) (gPre K [.ref a] G) (gQi K (fun r G1 => r = bI (decide (E o = 0)) ∧ G1 = G)) 0 0 (gA K) := by
  refine g_met (by decide) (Nat.le_of_ble_eq_true rfl) ?_
  intro p e s m below meth c M hr hlk hnm hR ls hl
  have M : gM K p s m _ c cX3_hangs 1 RX3 := M
  have hx := M.hx
  have hb := M.hb
  have hS : va_S (gA K) s.heap s.heap [] := va_S.rf
  have hl : lv_has ls 1 [(0, .ref a)] := hl
  refine lv_aload_n hx hb dX3_hangs_0 rfl (lv_at hl 0 rfl) ?_
  refine g_get (C := RX4) (T := TX4) (N := 8) M hR he rfl in_X4 5 (by decide) q347 (fun x h => h) rfl dX3_hangs_1 ?_
  refine lv_if_ne (tgt := 11) hx hb dX3_hangs_4 (by decide) (fun c4 => ?_) (fun c4 => ?_)
  · refine lv_iconst (v := (0 : Int32)) hx hb dX3_hangs_11 (by decide) ?_
    exact g_zret M hr hlk (by first | rfl | exact bI_nar _) hR hS (by omega) (by omega) dX3_hangs_12 (⟨by rw [decide_eq_false c4]; rfl, rfl⟩)
  · refine lv_iconst (v := (1 : Int32)) hx hb dX3_hangs_7 (by decide) ?_
    refine lv_goto (tgt := 12) hx hb dX3_hangs_8 (by decide) ?_
    exact g_zret M hr hlk (by first | rfl | exact bI_nar _) hR hS (by omega) (by omega) dX3_hangs_12 (⟨by rw [decide_eq_true c4]; rfl, rfl⟩)

set_option maxHeartbeats 4000000 in
set_option maxRecDepth 100000 in
theorem c_X3_hundredths4 (l : Launch) (K : gK) {G : gG} {a o : Nat} {F E : Nat → Int32} {u9 : Int32} {f9 : UInt32} (he : G a = some (.inl (.inr (4, oL F E o ++ [.int u9, .float f9])))) (hbb : fB (fSg F o) (16 * fU)) : Met l yX3_hundredths (ws_ yX3_hundredths cX3_hundredths 1 (Option.some Jvm.ClassFile.FieldType.int)) (gRm 0 0 0 0) (gPre K [.ref a] G) (gQi K (fun r G1 => r = FP.f2i (FP.fmul (fSg F o) 1120403456) ∧ G1 = G)) 0 0 (gA K) := by
  refine g_met (by decide) (Nat.le_of_ble_eq_true rfl) ?_
  intro p e s m below meth c M hr hlk hnm hR ls hl
  have M : gM K p s m _ c cX3_hundredths 1 RX3 := M
  have hx := M.hx
  have hb := M.hb
  have hS : va_S (gA K) s.heap s.heap [] := va_S.rf
  have hl : lv_has ls 1 [(0, .ref a)] := hl
  refine lv_aload_n hx hb dX3_hundredths_0 rfl (lv_at hl 0 rfl) ?_
  refine g_get (C := RX4) (T := TX4) (N := 8) M hR he rfl in_X4 4 (by decide) q342 (fun x h => h) rfl dX3_hundredths_1 ?_
  refine lv_ldcf hx hb M.hown (M.hts _ q542) dX3_hundredths_4 ?_
  refine lv_fmul hx hb dX3_hundredths_6 (hund_B hbb) ?_
  refine lv_f2i hx hb dX3_hundredths_7 ?_
  exact g_iret M hr hlk hR hS (by omega) (by omega) dX3_hundredths_8 (⟨rfl, rfl⟩)

theorem md_X3_other : gMd yX3_other 0 := by
  unfold gMd
  decide +kernel
set_option maxHeartbeats 4000000 in
set_option maxRecDepth 100000 in
theorem c_X3_other (l : Launch) (K : gK) {G : gG} {a : Nat} : Met l yX3_other (ws_ yX3_other cX3_other 1 (Option.some Jvm.ClassFile.FieldType.int)) (gRm 0 0 0 0) (gPre K [.ref a] G) (gQi K (fun r G1 => r = -5 ∧ G1 = G)) 0 0 (gA K) := by
  refine g_met (by decide) (Nat.le_of_ble_eq_true rfl) ?_
  intro p e s m below meth c M hr hlk hnm hR ls hl
  have M : gM K p s m _ c cX3_other 1 RX3 := M
  have hx := M.hx
  have hb := M.hb
  have hS : va_S (gA K) s.heap s.heap [] := va_S.rf
  have hl : lv_has ls 1 [(0, .ref a)] := hl
  refine lv_bipush (v := ((-5) : Int32)) hx hb dX3_other_0 (by decide) ?_
  exact g_iret M hr hlk hR hS (by omega) (by omega) dX3_other_2 (⟨rfl, rfl⟩)

theorem md_X3_factor : gMd yX3_factor 0 := by
  unfold gMd
  decide +kernel
set_option maxHeartbeats 4000000 in
set_option maxRecDepth 100000 in
theorem c_X3_factor (l : Launch) (K : gK) {G : gG} {a : Nat} : Met l yX3_factor (ws_ yX3_factor cX3_factor 1 (Option.some Jvm.ClassFile.FieldType.float)) (gRm 0 0 0 0) (gPre K [.ref a] G) (gQf K (fun r G1 => r = 1065353216 ∧ G1 = G)) 0 0 (gA K) := by
  refine g_met (by decide) (Nat.le_of_ble_eq_true rfl) ?_
  intro p e s m below meth c M hr hlk hnm hR ls hl
  have M : gM K p s m _ c cX3_factor 1 RX3 := M
  have hx := M.hx
  have hb := M.hb
  have hS : va_S (gA K) s.heap s.heap [] := va_S.rf
  have hl : lv_has ls 1 [(0, .ref a)] := hl
  refine lv_fconst1 hx hb dX3_factor_0 ?_
  exact g_fret M hr hlk hR hS (by omega) (by omega) dX3_factor_1 (⟨rfl, rfl⟩)

theorem md_X4_other : gMd yX4_other 0 := by
  unfold gMd
  decide +kernel
set_option maxHeartbeats 4000000 in
set_option maxRecDepth 100000 in
theorem c_X4_other (l : Launch) (K : gK) {G : gG} {a o : Nat} {F E : Nat → Int32} {u9 : Int32} {f9 : UInt32} (he : G a = some (.inl (.inr (4, oL F E o ++ [.int u9, .float f9])))) : Met l yX4_other (ws_ yX4_other cX4_other 1 (Option.some Jvm.ClassFile.FieldType.int)) (gRm 0 0 0 0) (gPre K [.ref a] G) (gQi K (fun r G1 => r = u9 ∧ G1 = G)) 0 0 (gA K) := by
  refine g_met (by decide) (Nat.le_of_ble_eq_true rfl) ?_
  intro p e s m below meth c M hr hlk hnm hR ls hl
  have M : gM K p s m _ c cX4_other 1 RX4 := M
  have hx := M.hx
  have hb := M.hb
  have hS : va_S (gA K) s.heap s.heap [] := va_S.rf
  have hl : lv_has ls 1 [(0, .ref a)] := hl
  refine lv_aload_n hx hb dX4_other_0 rfl (lv_at hl 0 rfl) ?_
  refine g_get (C := RX4) (T := TX4) (N := 8) M hR he rfl in_X4 6 (by decide) q320 (fun x h => h) rfl dX4_other_1 ?_
  exact g_iret M hr hlk hR hS (by omega) (by omega) dX4_other_4 (⟨rfl, rfl⟩)

theorem md_X4_factor : gMd yX4_factor 0 := by
  unfold gMd
  decide +kernel
set_option maxHeartbeats 4000000 in
set_option maxRecDepth 100000 in
theorem c_X4_factor (l : Launch) (K : gK) {G : gG} {a o : Nat} {F E : Nat → Int32} {u9 : Int32} {f9 : UInt32} (he : G a = some (.inl (.inr (4, oL F E o ++ [.int u9, .float f9])))) : Met l yX4_factor (ws_ yX4_factor cX4_factor 1 (Option.some Jvm.ClassFile.FieldType.float)) (gRm 0 0 0 0) (gPre K [.ref a] G) (gQf K (fun r G1 => r = f9 ∧ G1 = G)) 0 0 (gA K) := by
  refine g_met (by decide) (Nat.le_of_ble_eq_true rfl) ?_
  intro p e s m below meth c M hr hlk hnm hR ls hl
  have M : gM K p s m _ c cX4_factor 1 RX4 := M
  have hx := M.hx
  have hb := M.hb
  have hS : va_S (gA K) s.heap s.heap [] := va_S.rf
  have hl : lv_has ls 1 [(0, .ref a)] := hl
  refine lv_aload_n hx hb dX4_factor_0 rfl (lv_at hl 0 rfl) ?_
  refine g_get (C := RX4) (T := TX4) (N := 8) M hR he rfl in_X4 7 (by decide) q321 (fun x h => h) rfl dX4_factor_1 ?_
  exact g_fret M hr hlk hR hS (by omega) (by omega) dX4_factor_4 (⟨rfl, rfl⟩)
