/-! THE JDK: lists (rows printed by tools/p31.py) -/
theorem md_J2_elementData : gMd yJ2_elementData 1 := by
  unfold gMd
  decide +kernel
set_option maxHeartbeats 4000000 in
set_option maxRecDepth 100000 in
theorem c_J2_elementData (l : Launch) (K : gK) {G : gG} {a arr n cap : Nat} {mo : Int32} {f : Nat → Option Nat} (har : arr ≠ a) (j : Nat) (hj : j < cap) (hcap : cap ≤ 1000) : Met l yJ2_elementData (ws_ yJ2_elementData cJ2_elementData 2 (Option.some (Jvm.ClassFile.FieldType.object "java/lang/Object"))) (gRm 0 0 0 0) (gPre K [.ref a, .int (nI j)] (gOL K G a mo arr n cap f)) (gQq K (fun r G1 => r = f j ∧ G1 = gOL K G a mo arr n cap f)) 0 0 (gA K) := by
  refine g_met (by decide) (Nat.le_of_ble_eq_true rfl) ?_
  intro p e s m below meth c M hr hlk hnm hR ls hl
  have M : gM K p s m _ c cJ2_elementData 2 RJ2 := M
  have hx := M.hx
  have hb := M.hb
  have hS : va_S (gA K) s.heap s.heap [] := va_S.rf
  have hl : lv_has ls 2 [(0, .ref a), (1, .int (nI j))] := hl
  refine lv_aload_n hx hb dJ2_elementData_0 rfl (lv_at hl 0 rfl) ?_
  refine g_get (C := RJ2) (T := TJ2) (N := 3) M hR gOL_a rfl in_J2 1 (by decide) q113 (fun x h => h) rfl dJ2_elementData_1 ?_
  refine lv_iload_n hx hb dJ2_elementData_4 rfl (lv_at hl 1 rfl) ?_
  refine g_qld M hR (gOL_arr har) j rfl hj (by omega) rfl dJ2_elementData_5 ?_
  exact g_qret M hr (Or.inl ⟨_, rfl⟩) hlk (f j) rfl hR hS (by omega) (by omega) dJ2_elementData_6 (⟨rfl, rfl⟩)

theorem md_J2_size : gMd yJ2_size 0 := by
  unfold gMd
  decide +kernel
set_option maxHeartbeats 4000000 in
set_option maxRecDepth 100000 in
theorem c_J2_size (l : Launch) (K : gK) {G : gG} {a : Nat} {xs : List Nat} (ha : G a = some (.inr (.inl xs)))  : Met l yJ2_size (ws_ yJ2_size cJ2_size 1 (Option.some Jvm.ClassFile.FieldType.int)) (gRm 0 0 0 0) (gPre K [.ref a] G) (gQi K (fun r G1 => r = nI xs.length ∧ G1 = G)) 0 0 (gA K) := by
  refine g_met (by decide) (Nat.le_of_ble_eq_true rfl) ?_
  intro p e s m below meth c M hr hlk hnm hR ls hl
  have M : gM K p s m _ c cJ2_size 1 RJ2 := M
  have hx := M.hx
  have hb := M.hb
  have hS : va_S (gA K) s.heap s.heap [] := va_S.rf
  have hl : lv_has ls 1 [(0, .ref a)] := hl
  have hRc := hR
  obtain ⟨mo, cap, f, arr, hok, har9, hR⟩ := hR.opn ha
  have har := har9.1
  have hle := hok.1
  have hle2 := hok.2.1
  refine lv_aload_n hx hb dJ2_size_0 rfl (lv_at hl 0 rfl) ?_
  refine g_get (C := RJ2) (T := TJ2) (N := 3) M hR gOL_a rfl in_J2 2 (by decide) q114 (fun x h => h) rfl dJ2_size_1 ?_
  have hR := hRc
  exact g_iret M hr hlk hR hS (by omega) (by omega) dJ2_size_4 (⟨rfl, rfl⟩)

theorem md_J2_isEmpty : gMd yJ2_isEmpty 0 := by
  unfold gMd
  decide +kernel
set_option maxHeartbeats 4000000 in
set_option maxRecDepth 100000 in
theorem c_J2_isEmpty (l : Launch) (K : gK) {G : gG} {a : Nat} {xs : List Nat} (ha : G a = some (.inr (.inl xs)))  : Met l yJ2_isEmpty (ws_ yJ2_isEmpty cJ2_isEmpty 1 (Option.some Jvm.ClassFile.FieldType.boolean)) (gRm 0 0 0 0) (gPre K [.ref a] G) (gQi K (fun r G1 => r = bI (decide (xs.length = 0)) ∧ G1 = G)) 0 0 (gA K) := by
  refine g_met (by decide) (Nat.le_of_ble_eq_true rfl) ?_
  intro p e s m below meth c M hr hlk hnm hR ls hl
  have M : gM K p s m _ c cJ2_isEmpty 1 RJ2 := M
  have hx := M.hx
  have hb := M.hb
  have hS : va_S (gA K) s.heap s.heap [] := va_S.rf
  have hl : lv_has ls 1 [(0, .ref a)] := hl
  have hRc := hR
  obtain ⟨mo, cap, f, arr, hok, har9, hR⟩ := hR.opn ha
  have har := har9.1
  have hle := hok.1
  have hle2 := hok.2.1
  refine lv_aload_n hx hb dJ2_isEmpty_0 rfl (lv_at hl 0 rfl) ?_
  refine g_get (C := RJ2) (T := TJ2) (N := 3) M hR gOL_a rfl in_J2 2 (by decide) q114 (fun x h => h) rfl dJ2_isEmpty_1 ?_
  refine lv_if_ne (tgt := 11) hx hb dJ2_isEmpty_4 (by decide) (fun c4 => ?_) (fun c4 => ?_)
  · refine lv_iconst (v := (0 : Int32)) hx hb dJ2_isEmpty_11 (by decide) ?_
    have hR := hRc
    exact g_zret M hr hlk (by first | rfl | exact bI_nar _) hR hS (by omega) (by omega) dJ2_isEmpty_12 (⟨by rw [decide_eq_false (fun z => c4 (by rw [z]; rfl))]; rfl, rfl⟩)
  · refine lv_iconst (v := (1 : Int32)) hx hb dJ2_isEmpty_7 (by decide) ?_
    refine lv_goto (tgt := 12) hx hb dJ2_isEmpty_8 (by decide) ?_
    have hR := hRc
    exact g_zret M hr hlk (by first | rfl | exact bI_nar _) hR hS (by omega) (by omega) dJ2_isEmpty_12 (⟨by rw [decide_eq_true ((nI_eq (by omega) (by decide : 0 < 2 ^ 31)).mp c4)]; rfl, rfl⟩)

theorem md_J2_get : gMd yJ2_get 1 := by
  unfold gMd
  decide +kernel
set_option maxHeartbeats 4000000 in
set_option maxRecDepth 100000 in
theorem c_J2_get (l : Launch) (K : gK) {G : gG} {a : Nat} {xs : List Nat} (ha : G a = some (.inr (.inl xs))) (j : Nat) (hj : j < xs.length) : Met l yJ2_get (ws_ yJ2_get cJ2_get 2 (Option.some (Jvm.ClassFile.FieldType.object "java/lang/Object"))) (gRm 3 0 0 103) (gPre K [.ref a, .int (nI j)] G) (gQq K (fun r G1 => r = some xs[j] ∧ G1 = G)) 0 0 (gA K) := by
  refine g_met (by decide) (Nat.le_of_ble_eq_true rfl) ?_
  intro p e s m below meth c M hr hlk hnm hR ls hl
  have M : gM K p s m _ c cJ2_get 2 RJ2 := M
  have hx := M.hx
  have hb := M.hb
  have hS : va_S (gA K) s.heap s.heap [] := va_S.rf
  have hl : lv_has ls 2 [(0, .ref a), (1, .int (nI j))] := hl
  have hRc := hR
  obtain ⟨mo, cap, f, arr, hok, har9, hR⟩ := hR.opn ha
  have har := har9.1
  have hle := hok.1
  have hle2 := hok.2.1
  refine lv_iload_n hx hb dJ2_get_0 rfl (lv_at hl 1 rfl) ?_
  refine lv_aload_n hx hb dJ2_get_1 rfl (lv_at hl 0 rfl) ?_
  refine g_get (C := RJ2) (T := TJ2) (N := 3) M hR gOL_a rfl in_J2 2 (by decide) q114 (fun x h => h) rfl dJ2_get_2 ?_
  refine g_ki (g_S (As := [_, _]) M hR hS (c_J10_checkIndex l K _ _ hj (by omega)) (lw_S q293 q294 q74 q295) 2 md_J10_checkIndex ⟨rfl, rfl⟩ ⟨Nat.le_of_ble_eq_true rfl, Nat.le_of_ble_eq_true rfl⟩ rfl hl.1 rfl (lv_room (Nat.le_of_ble_eq_true rfl)) dJ2_get_5 ⟨(by first | exact Nat.le_refl _ | exact Nat.zero_le _ | (dsimp only; omega)), (by first | exact Nat.le_refl _ | exact Nat.zero_le _ | (dsimp only; omega))⟩) hS (fun r5 G5 H locs hp5 hR hS => ?_)
  obtain ⟨rfl, e5⟩ := hp5
  rw [e5] at hR
  refine lv_pop hx hb dJ2_get_8 rfl ?_
  refine lv_aload_n hx hb dJ2_get_9 rfl (lv_at hl 0 rfl) ?_
  refine lv_iload_n hx hb dJ2_get_10 rfl (lv_at hl 1 rfl) ?_
  refine g_kq (g_V (As := [_]) M hR hS (c_J2_elementData l K har j (by omega) hle2) (lw_V q299 q300 q301 q64 q302) 1 md_J2_elementData rfl ⟨rfl, rfl⟩ ⟨Nat.le_of_ble_eq_true rfl, Nat.le_of_ble_eq_true rfl⟩ (hR.recv M gOL_a rfl) rfl hl.1 rfl (lv_room (Nat.le_of_ble_eq_true rfl)) dJ2_get_11 ⟨(by first | exact Nat.le_refl _ | exact Nat.zero_le _ | (dsimp only; omega)), (by first | exact Nat.le_refl _ | exact Nat.zero_le _ | (dsimp only; omega))⟩) hS (fun r11 G11 H locs hp11 hR hS => ?_)
  obtain ⟨rfl, e11⟩ := hp11
  rw [e11] at hR
  have hR := hR.shut rfl hok har9
  rw [oU_same ha] at hR
  exact g_qret M hr (Or.inl ⟨_, rfl⟩) hlk (f j) rfl hR hS (by omega) (by omega) dJ2_get_14 (⟨hok.2.2 j hj, rfl⟩)

theorem md_J2_grow_2 : gMd yJ2_grow_2 1 := by
  unfold gMd
  decide +kernel
set_option maxHeartbeats 4000000 in
set_option maxRecDepth 100000 in
theorem c_J2_grow_2 (l : Launch) (K : gK) {G : gG} {a arr cap : Nat} {mo : Int32} {f : Nat → Option Nat} {xs : List Nat} (hok : alOk xs cap f) (har9 : gOa K G a arr cap) (hel : ∀ x ∈ xs, gOb G x) (hn : xs.length = cap) (hn60 : cap ≤ 60) : Met l yJ2_grow_2 (ws_ yJ2_grow_2 cJ2_grow_2 4 (Option.some (Jvm.ClassFile.FieldType.array (Jvm.ClassFile.FieldType.object "java/lang/Object")))) (gRm 3 1 100 104) (gPre K [.ref a, .int (nI (cap + 1))] (gOL K G a mo arr xs.length cap f)) (gQq K (fun r G1 => ∃ q cap2 f2, r = some q ∧ xs.length < cap2 ∧ cap2 ≤ 1000 ∧ (∀ i, i < xs.length → f2 i = f i) ∧ gOa K G a q cap2 ∧ G1 = gOL K G a mo q xs.length cap2 f2)) 1 100 (gA K) := by
  refine g_met (by decide) (Nat.le_of_ble_eq_true rfl) ?_
  intro p e s m below meth c M hr hlk hnm hR ls hl
  have M : gM K p s m _ c cJ2_grow_2 4 RJ2 := M
  have hx := M.hx
  have hb := M.hb
  have hS : va_S (gA K) s.heap s.heap [] := va_S.rf
  have hl : lv_has ls 4 [(0, .ref a), (1, .int (nI (cap + 1)))] := hl
  have har := har9.1
  have hle := hok.1
  have hle2 := hok.2.1
  have hE0 := hR.E
  refine lv_aload_n hx hb dJ2_grow_2_0 rfl (lv_at hl 0 rfl) ?_
  refine g_get (C := RJ2) (T := TJ2) (N := 3) M hR gOL_a rfl in_J2 1 (by decide) q113 (fun x h => h) rfl dJ2_grow_2_1 ?_
  refine g_alen M hR (gOL_arr har) 4 rfl dJ2_grow_2_4 ?_
  refine lv_istore_n (lv' := [(2, _), (0, _), (1, _)]) hx hb dJ2_grow_2_5 rfl hl (by decide) rfl (fun ls hl => ?_)
  refine lv_iload_n hx hb dJ2_grow_2_6 rfl (lv_at hl 0 rfl) ?_
  refine lv_if_gt (tgt := 20) hx hb dJ2_grow_2_7 (by decide) (fun c7 => ?_) (fun c7 => ?_)
  · have hne : arr ≠ kE K := fun z => by have h0 : 0 < nI cap := c7; rcases har9.2 with ⟨-, h1, -⟩ | ⟨h1, -⟩; rw [h1] at h0; exact absurd h0 (by decide); exact h1 z
    refine lv_iload_n hx hb dJ2_grow_2_20 rfl (lv_at hl 0 rfl) ?_
    refine lv_iload_n hx hb dJ2_grow_2_21 rfl (lv_at hl 2 rfl) ?_
    refine lv_iload_n hx hb dJ2_grow_2_22 rfl (lv_at hl 0 rfl) ?_
    refine lv_isub hx hb dJ2_grow_2_23 ?_
    refine g_topi (nI 1) ((sub_nI (Nat.le_succ _)).trans (congrArg nI (by omega))) ?_
    refine lv_iload_n hx hb dJ2_grow_2_24 rfl (lv_at hl 0 rfl) ?_
    refine lv_iconst (v := (1 : Int32)) hx hb dJ2_grow_2_25 (by decide) ?_
    refine lv_ishr hx hb dJ2_grow_2_26 ?_
    refine g_topi (nI (cap / 2)) (shr_1 cap (by omega)) ?_
    refine g_ki (g_S (As := [_, _, _]) M hR hS (c_J3_newLength l K cap 1 (cap / 2) (by omega) (by omega)) (lw_S q148 q149 q65 q150) 3 md_J3_newLength ⟨rfl, rfl⟩ ⟨Nat.le_of_ble_eq_true rfl, Nat.le_of_ble_eq_true rfl⟩ rfl hl.1 rfl (lv_room (Nat.le_of_ble_eq_true rfl)) dJ2_grow_2_27 ⟨(by first | exact Nat.le_refl _ | exact Nat.zero_le _ | (dsimp only; omega)), (by first | exact Nat.le_refl _ | exact Nat.zero_le _ | (dsimp only; omega))⟩) hS (fun r27 G27 H locs hp27 hR hS => ?_)
    obtain ⟨rfl, e27⟩ := hp27
    rw [e27] at hR
    refine lv_istore_n (lv' := [(3, _), (2, _), (0, _), (1, _)]) hx hb dJ2_grow_2_30 rfl hl (by decide) rfl (fun ls hl => ?_)
    refine lv_aload_n hx hb dJ2_grow_2_31 rfl (lv_at hl 2 rfl) ?_
    refine lv_aload_n hx hb dJ2_grow_2_32 rfl (lv_at hl 2 rfl) ?_
    refine g_get (C := RJ2) (T := TJ2) (N := 3) M hR gOL_a rfl in_J2 1 (by decide) q113 (fun x h => h) rfl dJ2_grow_2_33 ?_
    refine lv_iload_n hx hb dJ2_grow_2_36 rfl (lv_at hl 0 rfl) ?_
    refine g_kq (g_S (As := [_, _]) M hR hS (c_J5_copyOf l K (gOL_arr har) hne (cap + max 1 (cap / 2)) (by omega) (by omega) (by omega) (fun i hi y hy => (al_el hok hel (by omega) hy).opn har9 (Or.inr ((al_el hok hel (by omega) hy).nar har9)))) (lw_S q158 q159 q67 q160) 2 md_J5_copyOf ⟨rfl, rfl⟩ ⟨Nat.le_of_ble_eq_true rfl, Nat.le_of_ble_eq_true rfl⟩ rfl hl.1 rfl (lv_room (Nat.le_of_ble_eq_true rfl)) dJ2_grow_2_37 ⟨(by first | exact Nat.le_refl _ | exact Nat.zero_le _ | (dsimp only; omega)), (by first | exact Nat.le_refl _ | exact Nat.zero_le _ | (dsimp only; omega))⟩) hS (fun r37 G37 H locs hp37 hR hS => ?_)
    obtain ⟨q37, f37, rfl, hn37, rfl, hc37⟩ := hp37
    refine lv_dup_x1 hx hb dJ2_grow_2_40 rfl rfl ?_
    refine g_put (C := RJ2) (T := TJ2) (N := 3) M hR hS ((oU_n (fun z => by rw [← z, gOL_a] at hn37; cases hn37)).trans gOL_a) rfl in_J2 tyJ2 tyJ2_ok nmJ2 1 (by decide) q113 (fun x h => h) rfl rfl rfl (Nat.le_of_ble_eq_true rfl) dJ2_grow_2_41 (fun H locs hR hS => ?_)
    obtain ⟨hR, har2, hq0⟩ := gOL_new har9 hE0 hn37 hR
    exact g_qret M hr (Or.inr ⟨_, rfl⟩) hlk (some _) rfl hR hS (by omega) (by omega) dJ2_grow_2_44 (⟨q37, _, f37, rfl, by omega, by omega, fun i hi => hc37 i (by omega), har2, rfl⟩)
  · refine lv_aload_n hx hb dJ2_grow_2_10 rfl (lv_at hl 1 rfl) ?_
    refine g_get (C := RJ2) (T := TJ2) (N := 3) M hR gOL_a rfl in_J2 1 (by decide) q113 (fun x h => h) rfl dJ2_grow_2_11 ?_
    refine g_gets M hS M.2.2.1 q111 (fun x h => h) dJ2_grow_2_14 ?_
    refine lv_acmp_eq (rx := some arr) (ry := some (kE K)) (tgt := 45) hx hb dJ2_grow_2_17 (by decide) (fun c17 => ?_) (fun c17 => ?_)
    · have hk0 : arr = kE K := Option.some.inj c17
      have hc0 : cap = 0 := by rcases har9.2 with ⟨-, h1, -⟩ | ⟨h1, -⟩; exact h1; exact absurd hk0 h1
      refine lv_aload_n hx hb dJ2_grow_2_45 rfl (lv_at hl 1 rfl) ?_
      refine lv_bipush (v := (10 : Int32)) hx hb dJ2_grow_2_46 (by decide) ?_
      refine lv_iload_n hx hb dJ2_grow_2_48 rfl (lv_at hl 2 rfl) ?_
      refine g_ki (g_S (As := [_, _]) M hR hS (c_J4_max l K 10 (cap + 1) (by decide) (by omega)) (lw_S q187 q152 q66 q153) 2 md_J4_max ⟨rfl, rfl⟩ ⟨Nat.le_of_ble_eq_true rfl, Nat.le_of_ble_eq_true rfl⟩ rfl hl.1 rfl (lv_room (Nat.le_of_ble_eq_true rfl)) dJ2_grow_2_49 ⟨(by first | exact Nat.le_refl _ | exact Nat.zero_le _ | (dsimp only; omega)), (by first | exact Nat.le_refl _ | exact Nat.zero_le _ | (dsimp only; omega))⟩) hS (fun r49 G49 H locs hp49 hR hS => ?_)
      obtain ⟨rfl, e49⟩ := hp49
      rw [e49] at hR
      refine g_newq M hR hS q188 (max 10 (cap + 1)) rfl (by omega) (by first | exact Nat.le_refl _ | exact Nat.zero_le _ | (dsimp only; omega)) (by first | exact Nat.le_refl _ | exact Nat.zero_le _ | (dsimp only; omega)) dJ2_grow_2_52 (fun q52 H hn52 hR hS => ?_)
      refine lv_dup_x1 hx hb dJ2_grow_2_55 rfl rfl ?_
      refine g_put (C := RJ2) (T := TJ2) (N := 3) M hR hS ((oU_n (fun z => by rw [← z, gOL_a] at hn52; cases hn52)).trans gOL_a) rfl in_J2 tyJ2 tyJ2_ok nmJ2 1 (by decide) q113 (fun x h => h) rfl rfl rfl (Nat.le_of_ble_eq_true rfl) dJ2_grow_2_56 (fun H locs hR hS => ?_)
      obtain ⟨hR, har2, hq0⟩ := gOL_new har9 hE0 hn52 hR
      exact g_qret M hr (Or.inr ⟨_, rfl⟩) hlk (some _) rfl hR hS (by omega) (by omega) dJ2_grow_2_59 (⟨q52, _, _, rfl, by omega, by omega, fun i hi => absurd hi (by omega), har2, rfl⟩)
    · have hne : arr ≠ kE K := fun z => c17 (congrArg some z)
      refine lv_iload_n hx hb dJ2_grow_2_20 rfl (lv_at hl 0 rfl) ?_
      refine lv_iload_n hx hb dJ2_grow_2_21 rfl (lv_at hl 2 rfl) ?_
      refine lv_iload_n hx hb dJ2_grow_2_22 rfl (lv_at hl 0 rfl) ?_
      refine lv_isub hx hb dJ2_grow_2_23 ?_
      refine g_topi (nI 1) ((sub_nI (Nat.le_succ _)).trans (congrArg nI (by omega))) ?_
      refine lv_iload_n hx hb dJ2_grow_2_24 rfl (lv_at hl 0 rfl) ?_
      refine lv_iconst (v := (1 : Int32)) hx hb dJ2_grow_2_25 (by decide) ?_
      refine lv_ishr hx hb dJ2_grow_2_26 ?_
      refine g_topi (nI (cap / 2)) (shr_1 cap (by omega)) ?_
      refine g_ki (g_S (As := [_, _, _]) M hR hS (c_J3_newLength l K cap 1 (cap / 2) (by omega) (by omega)) (lw_S q148 q149 q65 q150) 3 md_J3_newLength ⟨rfl, rfl⟩ ⟨Nat.le_of_ble_eq_true rfl, Nat.le_of_ble_eq_true rfl⟩ rfl hl.1 rfl (lv_room (Nat.le_of_ble_eq_true rfl)) dJ2_grow_2_27 ⟨(by first | exact Nat.le_refl _ | exact Nat.zero_le _ | (dsimp only; omega)), (by first | exact Nat.le_refl _ | exact Nat.zero_le _ | (dsimp only; omega))⟩) hS (fun r27 G27 H locs hp27 hR hS => ?_)
      obtain ⟨rfl, e27⟩ := hp27
      rw [e27] at hR
      refine lv_istore_n (lv' := [(3, _), (2, _), (0, _), (1, _)]) hx hb dJ2_grow_2_30 rfl hl (by decide) rfl (fun ls hl => ?_)
      refine lv_aload_n hx hb dJ2_grow_2_31 rfl (lv_at hl 2 rfl) ?_
      refine lv_aload_n hx hb dJ2_grow_2_32 rfl (lv_at hl 2 rfl) ?_
      refine g_get (C := RJ2) (T := TJ2) (N := 3) M hR gOL_a rfl in_J2 1 (by decide) q113 (fun x h => h) rfl dJ2_grow_2_33 ?_
      refine lv_iload_n hx hb dJ2_grow_2_36 rfl (lv_at hl 0 rfl) ?_
      refine g_kq (g_S (As := [_, _]) M hR hS (c_J5_copyOf l K (gOL_arr har) hne (cap + max 1 (cap / 2)) (by omega) (by omega) (by omega) (fun i hi y hy => (al_el hok hel (by omega) hy).opn har9 (Or.inr ((al_el hok hel (by omega) hy).nar har9)))) (lw_S q158 q159 q67 q160) 2 md_J5_copyOf ⟨rfl, rfl⟩ ⟨Nat.le_of_ble_eq_true rfl, Nat.le_of_ble_eq_true rfl⟩ rfl hl.1 rfl (lv_room (Nat.le_of_ble_eq_true rfl)) dJ2_grow_2_37 ⟨(by first | exact Nat.le_refl _ | exact Nat.zero_le _ | (dsimp only; omega)), (by first | exact Nat.le_refl _ | exact Nat.zero_le _ | (dsimp only; omega))⟩) hS (fun r37 G37 H locs hp37 hR hS => ?_)
      obtain ⟨q37, f37, rfl, hn37, rfl, hc37⟩ := hp37
      refine lv_dup_x1 hx hb dJ2_grow_2_40 rfl rfl ?_
      refine g_put (C := RJ2) (T := TJ2) (N := 3) M hR hS ((oU_n (fun z => by rw [← z, gOL_a] at hn37; cases hn37)).trans gOL_a) rfl in_J2 tyJ2 tyJ2_ok nmJ2 1 (by decide) q113 (fun x h => h) rfl rfl rfl (Nat.le_of_ble_eq_true rfl) dJ2_grow_2_41 (fun H locs hR hS => ?_)
      obtain ⟨hR, har2, hq0⟩ := gOL_new har9 hE0 hn37 hR
      exact g_qret M hr (Or.inr ⟨_, rfl⟩) hlk (some _) rfl hR hS (by omega) (by omega) dJ2_grow_2_44 (⟨q37, _, f37, rfl, by omega, by omega, fun i hi => hc37 i (by omega), har2, rfl⟩)

theorem md_J2_grow : gMd yJ2_grow 0 := by
  unfold gMd
  decide +kernel
set_option maxHeartbeats 4000000 in
set_option maxRecDepth 100000 in
theorem c_J2_grow (l : Launch) (K : gK) {G : gG} {a arr cap : Nat} {mo : Int32} {f : Nat → Option Nat} {xs : List Nat} (hok : alOk xs cap f) (har9 : gOa K G a arr cap) (hel : ∀ x ∈ xs, gOb G x) (hn : xs.length = cap) (hn60 : cap ≤ 60) : Met l yJ2_grow (ws_ yJ2_grow cJ2_grow 1 (Option.some (Jvm.ClassFile.FieldType.array (Jvm.ClassFile.FieldType.object "java/lang/Object")))) (gRm 4 1 100 127) (gPre K [.ref a] (gOL K G a mo arr xs.length cap f)) (gQq K (fun r G1 => ∃ q cap2 f2, r = some q ∧ xs.length < cap2 ∧ cap2 ≤ 1000 ∧ (∀ i, i < xs.length → f2 i = f i) ∧ gOa K G a q cap2 ∧ G1 = gOL K G a mo q xs.length cap2 f2)) 1 100 (gA K) := by
  refine g_met (by decide) (Nat.le_of_ble_eq_true rfl) ?_
  intro p e s m below meth c M hr hlk hnm hR ls hl
  have M : gM K p s m _ c cJ2_grow 1 RJ2 := M
  have hx := M.hx
  have hb := M.hb
  have hS : va_S (gA K) s.heap s.heap [] := va_S.rf
  have hl : lv_has ls 1 [(0, .ref a)] := hl
  have har := har9.1
  have hle := hok.1
  have hle2 := hok.2.1
  refine lv_aload_n hx hb dJ2_grow_0 rfl (lv_at hl 0 rfl) ?_
  refine lv_aload_n hx hb dJ2_grow_1 rfl (lv_at hl 0 rfl) ?_
  refine g_get (C := RJ2) (T := TJ2) (N := 3) M hR gOL_a rfl in_J2 2 (by decide) q114 (fun x h => h) rfl dJ2_grow_2 ?_
  refine lv_iconst (v := (1 : Int32)) hx hb dJ2_grow_5 (by decide) ?_
  refine lv_iadd hx hb dJ2_grow_6 ?_
  refine g_topi (nI (cap + 1)) (by rw [hn]; exact nI_1 cap) ?_
  refine g_kq (g_V (As := [_]) M hR hS (c_J2_grow_2 l K hok har9 hel (by omega) (by omega)) (lw_V q144 q146 qs2 q64 q147) 1 md_J2_grow_2 rfl ⟨rfl, rfl⟩ ⟨Nat.le_of_ble_eq_true rfl, Nat.le_of_ble_eq_true rfl⟩ (hR.recv M gOL_a rfl) rfl hl.1 rfl (lv_room (Nat.le_of_ble_eq_true rfl)) dJ2_grow_7 ⟨(by first | exact Nat.le_refl _ | exact Nat.zero_le _ | (dsimp only; omega)), (by first | exact Nat.le_refl _ | exact Nat.zero_le _ | (dsimp only; omega))⟩) hS (fun r7 G7 H locs hp7 hR hS => ?_)
  obtain ⟨q7, cap2, f2, rfl, hlt, hcap2, hf2, har9, rfl⟩ := hp7
  exact g_qret M hr (Or.inr ⟨_, rfl⟩) hlk (some _) rfl hR hS (by omega) (by omega) dJ2_grow_10 (⟨q7, _, _, rfl, hlt, hcap2, hf2, har9, rfl⟩)

theorem md_J2_add_2 : gMd yJ2_add_2 3 := by
  unfold gMd
  decide +kernel
set_option maxHeartbeats 4000000 in
set_option maxRecDepth 100000 in
theorem c_J2_add_2 (l : Launch) (K : gK) {G : gG} {a arr cap : Nat} {mo : Int32} {f : Nat → Option Nat} {xs : List Nat} (hok : alOk xs cap f) (har9 : gOa K G a arr cap) (hel : ∀ x ∈ xs, gOb G x) {v : Nat} (hv : gOb G v) (hn60 : xs.length ≤ 60) : Met l yJ2_add_2 (ws_ yJ2_add_2 cJ2_add_2 4 (Option.none : Option Jvm.ClassFile.FieldType)) (gRm 5 1 100 147) (gPre K [.ref a, .ref v, .ref arr, .int (nI xs.length)] (gOL K G a mo arr xs.length cap f)) (gQv K (fun G1 => ∃ q cap2 f2, alOk (xs ++ [v]) cap2 f2 ∧ gOa K G a q cap2 ∧ G1 = gOL K G a mo q (xs.length + 1) cap2 f2)) 1 100 (gA K) := by
  refine g_met (by decide) (Nat.le_of_ble_eq_true rfl) ?_
  intro p e s m below meth c M hr hlk hnm hR ls hl
  have M : gM K p s m _ c cJ2_add_2 4 RJ2 := M
  have hx := M.hx
  have hb := M.hb
  have hS : va_S (gA K) s.heap s.heap [] := va_S.rf
  have hl : lv_has ls 4 [(0, .ref a), (1, .ref v), (2, .ref arr), (3, .int (nI xs.length))] := hl
  have har := har9.1
  have hle := hok.1
  have hle2 := hok.2.1
  refine lv_iload_n hx hb dJ2_add_2_0 rfl (lv_at hl 3 rfl) ?_
  refine lv_aload_n hx hb dJ2_add_2_1 rfl (lv_at hl 2 rfl) ?_
  refine g_alen M hR (gOL_arr har9.1) 4 rfl dJ2_add_2_2 ?_
  refine lv_icmp_ne (tgt := 11) hx hb dJ2_add_2_3 (by decide) (fun c3 => ?_) (fun c3 => ?_)
  · have hlt : xs.length < cap := by have : ¬ xs.length = cap := fun z => c3 (by rw [← z]); omega
    have hok2 := al_push (v := v) hok hlt hle2 (fun i _ => rfl)
    refine lv_aload_n hx hb dJ2_add_2_11 rfl (lv_at hl 2 rfl) ?_
    refine lv_iload_n hx hb dJ2_add_2_12 rfl (lv_at hl 3 rfl) ?_
    refine lv_aload_n hx hb dJ2_add_2_13 rfl (lv_at hl 1 rfl) ?_
    refine g_qst M hR hS (gOL_arr har9.1) (hv.opn har9 (Or.inr (hv.nar har9))) xs.length rfl hlt (by omega) dJ2_add_2_14 (fun H locs hR hS => ?_)
    rw [gOL_w har9.1] at hR
    refine lv_aload_n hx hb dJ2_add_2_15 rfl (lv_at hl 0 rfl) ?_
    refine lv_iload_n hx hb dJ2_add_2_16 rfl (lv_at hl 3 rfl) ?_
    refine lv_iconst (v := (1 : Int32)) hx hb dJ2_add_2_17 (by decide) ?_
    refine lv_iadd hx hb dJ2_add_2_18 ?_
    refine g_topi (nI (xs.length + 1)) (nI_1 _) ?_
    refine g_put (C := RJ2) (T := TJ2) (N := 3) M hR hS gOL_a rfl in_J2 tyJ2 tyJ2_ok nmJ2 2 (by decide) q114 (fun x h => h) rfl rfl rfl (Nat.le_of_ble_eq_true rfl) dJ2_add_2_19 (fun H locs hR hS => ?_)
    have hR := g_m hR
    exact g_vret M hr hlk hR hS (by omega) (by omega) dJ2_add_2_22 (⟨_, _, _, hok2, har9, rfl⟩)
  · have hcl : xs.length = cap := (nI_eq (by omega) (by omega)).mp c3
    refine lv_aload_n hx hb dJ2_add_2_6 rfl (lv_at hl 0 rfl) ?_
    refine g_kq (g_V (As := []) M hR hS (c_J2_grow l K hok har9 hel (by omega) (by omega)) (lw_V q140 q142 qs1 q64 q143) 0 md_J2_grow rfl ⟨rfl, rfl⟩ ⟨Nat.le_of_ble_eq_true rfl, Nat.le_of_ble_eq_true rfl⟩ (hR.recv M gOL_a rfl) rfl hl.1 rfl (lv_room (Nat.le_of_ble_eq_true rfl)) dJ2_add_2_7 ⟨(by first | exact Nat.le_refl _ | exact Nat.zero_le _ | (dsimp only; omega)), (by first | exact Nat.le_refl _ | exact Nat.zero_le _ | (dsimp only; omega))⟩) hS (fun r7 G7 H locs hp7 hR hS => ?_)
    obtain ⟨q7, cap2, f2, rfl, hlt, hcap2, hf2, har9, rfl⟩ := hp7
    refine lv_astore_n (lv' := [(2, _), (0, _), (1, _), (3, _)]) hx hb dJ2_add_2_10 rfl hl (by decide) rfl (fun ls hl => ?_)
    have hok2 := al_push (v := v) hok hlt hcap2 hf2
    refine lv_aload_n hx hb dJ2_add_2_11 rfl (lv_at hl 0 rfl) ?_
    refine lv_iload_n hx hb dJ2_add_2_12 rfl (lv_at hl 3 rfl) ?_
    refine lv_aload_n hx hb dJ2_add_2_13 rfl (lv_at hl 2 rfl) ?_
    refine g_qst M hR hS (gOL_arr har9.1) (hv.opn har9 (Or.inr (hv.nar har9))) xs.length rfl hlt (by omega) dJ2_add_2_14 (fun H locs hR hS => ?_)
    rw [gOL_w har9.1] at hR
    refine lv_aload_n hx hb dJ2_add_2_15 rfl (lv_at hl 1 rfl) ?_
    refine lv_iload_n hx hb dJ2_add_2_16 rfl (lv_at hl 3 rfl) ?_
    refine lv_iconst (v := (1 : Int32)) hx hb dJ2_add_2_17 (by decide) ?_
    refine lv_iadd hx hb dJ2_add_2_18 ?_
    refine g_topi (nI (xs.length + 1)) (nI_1 _) ?_
    refine g_put (C := RJ2) (T := TJ2) (N := 3) M hR hS gOL_a rfl in_J2 tyJ2 tyJ2_ok nmJ2 2 (by decide) q114 (fun x h => h) rfl rfl rfl (Nat.le_of_ble_eq_true rfl) dJ2_add_2_19 (fun H locs hR hS => ?_)
    have hR := g_m hR
    exact g_vret M hr hlk hR hS (by omega) (by omega) dJ2_add_2_22 (⟨_, _, _, hok2, har9, rfl⟩)

theorem md_J2_add : gMd yJ2_add 1 := by
  unfold gMd
  decide +kernel
set_option maxHeartbeats 4000000 in
set_option maxRecDepth 100000 in
theorem c_J2_add (l : Launch) (K : gK) {G : gG} {a : Nat} {xs : List Nat} (ha : G a = some (.inr (.inl xs))) (hel : ∀ x ∈ xs, gOb G x) {v : Nat} (hv : gOb G v) (hn60 : xs.length ≤ 60) : Met l yJ2_add (ws_ yJ2_add cJ2_add 2 (Option.some Jvm.ClassFile.FieldType.boolean)) (gRm 6 1 100 170) (gPre K [.ref a, .ref v] G) (gQi K (fun r G1 => r = 1 ∧ G1 = oU G a (.inr (.inl (xs ++ [v]))))) 1 100 (gA K) := by
  refine g_met (by decide) (Nat.le_of_ble_eq_true rfl) ?_
  intro p e s m below meth c M hr hlk hnm hR ls hl
  have M : gM K p s m _ c cJ2_add 2 RJ2 := M
  have hx := M.hx
  have hb := M.hb
  have hS : va_S (gA K) s.heap s.heap [] := va_S.rf
  have hl : lv_has ls 2 [(0, .ref a), (1, .ref v)] := hl
  have hRc := hR
  obtain ⟨mo, cap, f, arr, hok, har9, hR⟩ := hR.opn ha
  have har := har9.1
  have hle := hok.1
  have hle2 := hok.2.1
  refine lv_aload_n hx hb dJ2_add_0 rfl (lv_at hl 0 rfl) ?_
  refine lv_dup hx hb dJ2_add_1 rfl ?_
  refine g_get (C := RJ2) (T := TJ2) (N := 3) M hR gOL_a rfl in_J2 0 (by decide) q116 (fun x h => u_same (M.hts _ q117) x h) rfl dJ2_add_2 ?_
  refine lv_iconst (v := (1 : Int32)) hx hb dJ2_add_5 (by decide) ?_
  refine lv_iadd hx hb dJ2_add_6 ?_
  refine g_put (C := RJ2) (T := TJ2) (N := 3) M hR hS gOL_a rfl in_J2 tyJ2 tyJ2_ok nmJ2 0 (by decide) q116 (fun x h => u_same (M.hts _ q117) x h) rfl rfl rfl (Nat.le_of_ble_eq_true rfl) dJ2_add_7 (fun H locs hR hS => ?_)
  have hR := g_m hR
  refine lv_aload_n hx hb dJ2_add_10 rfl (lv_at hl 0 rfl) ?_
  refine lv_aload_n hx hb dJ2_add_11 rfl (lv_at hl 1 rfl) ?_
  refine lv_aload_n hx hb dJ2_add_12 rfl (lv_at hl 0 rfl) ?_
  refine g_get (C := RJ2) (T := TJ2) (N := 3) M hR gOL_a rfl in_J2 1 (by decide) q113 (fun x h => h) rfl dJ2_add_13 ?_
  refine lv_aload_n hx hb dJ2_add_16 rfl (lv_at hl 0 rfl) ?_
  refine g_get (C := RJ2) (T := TJ2) (N := 3) M hR gOL_a rfl in_J2 2 (by decide) q114 (fun x h => h) rfl dJ2_add_17 ?_
  refine g_kv (g_V (As := [_, _, _]) M hR hS (c_J2_add_2 l K hok har9 hel hv (by omega)) (lw_V q136 q138 qs0 q64 q139) 3 md_J2_add_2 rfl ⟨rfl, rfl⟩ ⟨Nat.le_of_ble_eq_true rfl, Nat.le_of_ble_eq_true rfl⟩ (hR.recv M gOL_a rfl) rfl hl.1 rfl (lv_room (Nat.le_of_ble_eq_true rfl)) dJ2_add_20 ⟨(by first | exact Nat.le_refl _ | exact Nat.zero_le _ | (dsimp only; omega)), (by first | exact Nat.le_refl _ | exact Nat.zero_le _ | (dsimp only; omega))⟩) hS (fun G20 H locs hp20 hR hS => ?_)
  obtain ⟨q2, cap2, f2, hok, har9, rfl⟩ := hp20
  have hR := hR.shut (by simp) hok har9
  refine lv_iconst (v := (1 : Int32)) hx hb dJ2_add_23 (by decide) ?_
  exact g_zret M hr hlk (by first | rfl | exact bI_nar _) hR hS (by omega) (by omega) dJ2_add_24 (⟨rfl, rfl⟩)

theorem md_J2_fastRemove : gMd yJ2_fastRemove 2 := by
  unfold gMd
  decide +kernel
set_option maxHeartbeats 4000000 in
set_option maxRecDepth 100000 in
theorem c_J2_fastRemove (l : Launch) (K : gK) {G : gG} {a arr cap : Nat} {mo : Int32} {f : Nat → Option Nat} {xs : List Nat} (hok : alOk xs cap f) (har9 : gOa K G a arr cap) (hel : ∀ x ∈ xs, gOb G x) (j : Nat) (hj : j < xs.length) (hn60 : xs.length ≤ 60) : Met l yJ2_fastRemove (ws_ yJ2_fastRemove cJ2_fastRemove 4 (Option.none : Option Jvm.ClassFile.FieldType)) (gRm 1 0 0 60) (gPre K [.ref a, .ref arr, .int (nI j)] (gOL K G a mo arr xs.length cap f)) (gQv K (fun G1 => ∃ mo2 f2, alOk (xs.eraseIdx j) cap f2 ∧ G1 = gOL K G a mo2 arr (xs.length - 1) cap f2)) 0 0 (gA K) := by
  refine g_met (by decide) (Nat.le_of_ble_eq_true rfl) ?_
  intro p e s m below meth c M hr hlk hnm hR ls hl
  have M : gM K p s m _ c cJ2_fastRemove 4 RJ2 := M
  have hx := M.hx
  have hb := M.hb
  have hS : va_S (gA K) s.heap s.heap [] := va_S.rf
  have hl : lv_has ls 4 [(0, .ref a), (1, .ref arr), (2, .int (nI j))] := hl
  have har := har9.1
  have hle := hok.1
  have hle2 := hok.2.1
  have hne : arr ≠ kE K := fun z => by rcases har9.2 with ⟨-, h1, -⟩ | ⟨h1, -⟩; omega; exact h1 z
  refine lv_aload_n hx hb dJ2_fastRemove_0 rfl (lv_at hl 0 rfl) ?_
  refine lv_dup hx hb dJ2_fastRemove_1 rfl ?_
  refine g_get (C := RJ2) (T := TJ2) (N := 3) M hR gOL_a rfl in_J2 0 (by decide) q116 (fun x h => u_same (M.hts _ q117) x h) rfl dJ2_fastRemove_2 ?_
  refine lv_iconst (v := (1 : Int32)) hx hb dJ2_fastRemove_5 (by decide) ?_
  refine lv_iadd hx hb dJ2_fastRemove_6 ?_
  refine g_put (C := RJ2) (T := TJ2) (N := 3) M hR hS gOL_a rfl in_J2 tyJ2 tyJ2_ok nmJ2 0 (by decide) q116 (fun x h => u_same (M.hts _ q117) x h) rfl rfl rfl (Nat.le_of_ble_eq_true rfl) dJ2_fastRemove_7 (fun H locs hR hS => ?_)
  have hR := g_m hR
  refine lv_aload_n hx hb dJ2_fastRemove_10 rfl (lv_at hl 0 rfl) ?_
  refine g_get (C := RJ2) (T := TJ2) (N := 3) M hR gOL_a rfl in_J2 2 (by decide) q114 (fun x h => h) rfl dJ2_fastRemove_11 ?_
  refine lv_iconst (v := (1 : Int32)) hx hb dJ2_fastRemove_14 (by decide) ?_
  refine lv_isub hx hb dJ2_fastRemove_15 ?_
  refine g_topi (nI (xs.length - 1)) (sub_1 (by omega)) ?_
  refine lv_dup hx hb dJ2_fastRemove_16 rfl ?_
  refine lv_istore_n (lv' := [(3, _), (0, _), (1, _), (2, _)]) hx hb dJ2_fastRemove_17 rfl hl (by decide) rfl (fun ls hl => ?_)
  refine lv_iload_n hx hb dJ2_fastRemove_18 rfl (lv_at hl 3 rfl) ?_
  refine lv_icmp_le (tgt := 34) hx hb dJ2_fastRemove_19 (by decide) (fun c19 => ?_) (fun c19 => ?_)
  · have hok2 := al_pull0 hok hj ((nI_leI (by omega) (by omega)).mp c19)
    refine lv_aload_n hx hb dJ2_fastRemove_34 rfl (lv_at hl 2 rfl) ?_
    refine lv_aload_n hx hb dJ2_fastRemove_35 rfl (lv_at hl 1 rfl) ?_
    refine lv_iload_n hx hb dJ2_fastRemove_36 rfl (lv_at hl 0 rfl) ?_
    refine lv_dup_x1 hx hb dJ2_fastRemove_37 rfl rfl ?_
    refine g_put (C := RJ2) (T := TJ2) (N := 3) M hR hS gOL_a rfl in_J2 tyJ2 tyJ2_ok nmJ2 2 (by decide) q114 (fun x h => h) rfl rfl rfl (Nat.le_of_ble_eq_true rfl) dJ2_fastRemove_38 (fun H locs hR hS => ?_)
    have hR := g_m hR
    refine lv_null hx hb dJ2_fastRemove_41 ?_
    refine g_qstN M hR hS (gOL_arr har9.1) (xs.length - 1) rfl (by omega) (by omega) dJ2_fastRemove_42 (fun H locs hR hS => ?_)
    rw [gOL_w har] at hR
    exact g_vret M hr hlk hR hS (by omega) (by omega) dJ2_fastRemove_43 (⟨_, _, hok2, rfl⟩)
  · refine lv_aload_n hx hb dJ2_fastRemove_22 rfl (lv_at hl 2 rfl) ?_
    refine lv_iload_n hx hb dJ2_fastRemove_23 rfl (lv_at hl 3 rfl) ?_
    refine lv_iconst (v := (1 : Int32)) hx hb dJ2_fastRemove_24 (by decide) ?_
    refine lv_iadd hx hb dJ2_fastRemove_25 ?_
    refine g_topi (nI (j + 1)) (nI_1 j) ?_
    refine lv_aload_n hx hb dJ2_fastRemove_26 rfl (lv_at hl 2 rfl) ?_
    refine lv_iload_n hx hb dJ2_fastRemove_27 rfl (lv_at hl 3 rfl) ?_
    refine lv_iload_n hx hb dJ2_fastRemove_28 rfl (lv_at hl 0 rfl) ?_
    refine lv_iload_n hx hb dJ2_fastRemove_29 rfl (lv_at hl 3 rfl) ?_
    refine lv_isub hx hb dJ2_fastRemove_30 ?_
    refine g_topi (nI (xs.length - 1 - j)) (sub_nI (by have := fun z => c19 (nI_le z (by omega)); omega)) ?_
    refine g_cpq M hR hS hl.1 q405 q186 q185 q68 (gOL_arr har) (gOL_arr har) (j + 1) j (xs.length - 1 - j) rfl rfl rfl (by have : ¬ xs.length - 1 ≤ j := fun z => c19 (nI_le z (by omega)); omega) (by omega) (by omega) (by omega) hne hne (fun i hi y hy => (al_el hok hel (by omega) hy).opn har9 (Or.inr ((al_el hok hel (by omega) hy).nar har9))) (Nat.le_of_ble_eq_true rfl) (Nat.le_of_ble_eq_true rfl) dJ2_fastRemove_31 (fun H locs hR hS => ?_)
    rw [gOL_w har] at hR
    have hok2 := al_pull hok hj
    refine lv_aload_n hx hb dJ2_fastRemove_34 rfl (lv_at hl 2 rfl) ?_
    refine lv_aload_n hx hb dJ2_fastRemove_35 rfl (lv_at hl 1 rfl) ?_
    refine lv_iload_n hx hb dJ2_fastRemove_36 rfl (lv_at hl 0 rfl) ?_
    refine lv_dup_x1 hx hb dJ2_fastRemove_37 rfl rfl ?_
    refine g_put (C := RJ2) (T := TJ2) (N := 3) M hR hS gOL_a rfl in_J2 tyJ2 tyJ2_ok nmJ2 2 (by decide) q114 (fun x h => h) rfl rfl rfl (Nat.le_of_ble_eq_true rfl) dJ2_fastRemove_38 (fun H locs hR hS => ?_)
    have hR := g_m hR
    refine lv_null hx hb dJ2_fastRemove_41 ?_
    refine g_qstN M hR hS (gOL_arr har9.1) (xs.length - 1) rfl (by omega) (by omega) dJ2_fastRemove_42 (fun H locs hR hS => ?_)
    rw [gOL_w har] at hR
    exact g_vret M hr hlk hR hS (by omega) (by omega) dJ2_fastRemove_43 (⟨_, _, hok2, rfl⟩)

theorem md_J2_remove : gMd yJ2_remove 1 := by
  unfold gMd
  decide +kernel
set_option maxHeartbeats 4000000 in
set_option maxRecDepth 100000 in
theorem c_J2_remove (l : Launch) (K : gK) {G : gG} {a : Nat} {xs : List Nat} (ha : G a = some (.inr (.inl xs))) (hel : ∀ x ∈ xs, gOb G x) (j : Nat) (hj : j < xs.length) (hn60 : xs.length ≤ 60) : Met l yJ2_remove (ws_ yJ2_remove cJ2_remove 4 (Option.some (Jvm.ClassFile.FieldType.object "java/lang/Object"))) (gRm 3 0 0 103) (gPre K [.ref a, .int (nI j)] G) (gQq K (fun r G1 => r = some xs[j] ∧ G1 = oU G a (.inr (.inl (xs.eraseIdx j))))) 0 0 (gA K) := by
  refine g_met (by decide) (Nat.le_of_ble_eq_true rfl) ?_
  intro p e s m below meth c M hr hlk hnm hR ls hl
  have M : gM K p s m _ c cJ2_remove 4 RJ2 := M
  have hx := M.hx
  have hb := M.hb
  have hS : va_S (gA K) s.heap s.heap [] := va_S.rf
  have hl : lv_has ls 4 [(0, .ref a), (1, .int (nI j))] := hl
  have hRc := hR
  obtain ⟨mo, cap, f, arr, hok, har9, hR⟩ := hR.opn ha
  have har := har9.1
  have hle := hok.1
  have hle2 := hok.2.1
  refine lv_iload_n hx hb dJ2_remove_0 rfl (lv_at hl 1 rfl) ?_
  refine lv_aload_n hx hb dJ2_remove_1 rfl (lv_at hl 0 rfl) ?_
  refine g_get (C := RJ2) (T := TJ2) (N := 3) M hR gOL_a rfl in_J2 2 (by decide) q114 (fun x h => h) rfl dJ2_remove_2 ?_
  refine g_ki (g_S (As := [_, _]) M hR hS (c_J10_checkIndex l K _ _ hj (by omega)) (lw_S q293 q294 q74 q295) 2 md_J10_checkIndex ⟨rfl, rfl⟩ ⟨Nat.le_of_ble_eq_true rfl, Nat.le_of_ble_eq_true rfl⟩ rfl hl.1 rfl (lv_room (Nat.le_of_ble_eq_true rfl)) dJ2_remove_5 ⟨(by first | exact Nat.le_refl _ | exact Nat.zero_le _ | (dsimp only; omega)), (by first | exact Nat.le_refl _ | exact Nat.zero_le _ | (dsimp only; omega))⟩) hS (fun r5 G5 H locs hp5 hR hS => ?_)
  obtain ⟨rfl, e5⟩ := hp5
  rw [e5] at hR
  refine lv_pop hx hb dJ2_remove_8 rfl ?_
  refine lv_aload_n hx hb dJ2_remove_9 rfl (lv_at hl 0 rfl) ?_
  refine g_get (C := RJ2) (T := TJ2) (N := 3) M hR gOL_a rfl in_J2 1 (by decide) q113 (fun x h => h) rfl dJ2_remove_10 ?_
  refine lv_astore_n (lv' := [(2, _), (0, _), (1, _)]) hx hb dJ2_remove_13 rfl hl (by decide) rfl (fun ls hl => ?_)
  refine lv_aload_n hx hb dJ2_remove_14 rfl (lv_at hl 0 rfl) ?_
  refine lv_iload_n hx hb dJ2_remove_15 rfl (lv_at hl 2 rfl) ?_
  refine g_qld M hR (gOL_arr har) j rfl (by omega) (by omega) (show va_rf (f j) = .ref xs[j] from congrArg va_rf (hok.2.2 j hj)) dJ2_remove_16 ?_
  refine lv_astore_n (lv' := [(3, _), (2, _), (0, _), (1, _)]) hx hb dJ2_remove_17 rfl hl (by decide) rfl (fun ls hl => ?_)
  refine lv_aload_n hx hb dJ2_remove_18 rfl (lv_at hl 2 rfl) ?_
  refine lv_aload_n hx hb dJ2_remove_19 rfl (lv_at hl 1 rfl) ?_
  refine lv_iload_n hx hb dJ2_remove_20 rfl (lv_at hl 3 rfl) ?_
  refine g_kv (g_V (As := [_, _]) M hR hS (c_J2_fastRemove l K hok har9 hel j hj hn60) (lw_V q401 q403 qs4 q64 q404) 2 md_J2_fastRemove rfl ⟨rfl, rfl⟩ ⟨Nat.le_of_ble_eq_true rfl, Nat.le_of_ble_eq_true rfl⟩ (hR.recv M gOL_a rfl) rfl hl.1 rfl (lv_room (Nat.le_of_ble_eq_true rfl)) dJ2_remove_21 ⟨(by first | exact Nat.le_refl _ | exact Nat.zero_le _ | (dsimp only; omega)), (by first | exact Nat.le_refl _ | exact Nat.zero_le _ | (dsimp only; omega))⟩) hS (fun G21 H locs hp21 hR hS => ?_)
  obtain ⟨mo2, f2, hok2, rfl⟩ := hp21
  have hR := hR.shut (er_len hj) hok2 har9
  refine lv_aload_n hx hb dJ2_remove_24 rfl (lv_at hl 0 rfl) ?_
  exact g_qret M hr (Or.inl ⟨_, rfl⟩) hlk (some _) rfl hR hS (by omega) (by omega) dJ2_remove_25 (⟨rfl, rfl⟩)

theorem md_J2_remove_2 : gMd yJ2_remove_2 1 := by
  unfold gMd
  decide +kernel
set_option maxHeartbeats 4000000 in
set_option maxRecDepth 100000 in
theorem c_J2_remove_2 (l : Launch) (K : gK) {G : gG} {a : Nat} {xs : List Nat} (ha : G a = some (.inr (.inl xs))) (hel : ∀ x ∈ xs, gOb G x) {v ci : Nat} {fs : List Value} (hv : G v = some (.inl (.inr (ci, fs)))) (h34 : ci = 3 ∨ ci = 4) (j : Nat) (hj : j < xs.length) (hxj : xs[j] = v) (hfst : ∀ (i : Nat) (h : i < j), xs[i] ≠ v) (hn60 : xs.length ≤ 60) : Met l yJ2_remove_2 (ws_ yJ2_remove_2 cJ2_remove_2 5 (Option.some Jvm.ClassFile.FieldType.boolean)) (gRm 2 0 0 83) (gPre K [.ref a, .ref v] G) (gQi K (fun r G1 => r = 1 ∧ G1 = oU G a (.inr (.inl (xs.eraseIdx j))))) 0 0 (gA K) := by
  refine g_met (by decide) (Nat.le_of_ble_eq_true rfl) ?_
  intro p e s m below meth c M hr hlk hnm hR ls hl
  have M : gM K p s m _ c cJ2_remove_2 5 RJ2 := M
  have hx := M.hx
  have hb := M.hb
  have hS : va_S (gA K) s.heap s.heap [] := va_S.rf
  have hl : lv_has ls 5 [(0, .ref a), (1, .ref v)] := hl
  have hRc := hR
  obtain ⟨mo, cap, f, arr, hok, har9, hR⟩ := hR.opn ha
  have har := har9.1
  have hle := hok.1
  have hle2 := hok.2.1
  have hvO : gOL K G a mo arr xs.length cap f v = some (.inl (.inr (ci, fs))) := (gOL_n ((show gOb G v from Or.inl ⟨ci, fs, by omega, by omega, hv⟩).nar har9) (fun z => by rw [z, ha] at hv; cases hv)).trans hv
  refine lv_aload_n hx hb dJ2_remove_2_0 rfl (lv_at hl 0 rfl) ?_
  refine g_get (C := RJ2) (T := TJ2) (N := 3) M hR gOL_a rfl in_J2 1 (by decide) q113 (fun x h => h) rfl dJ2_remove_2_1 ?_
  refine lv_astore_n (lv' := [(2, _), (0, _), (1, _)]) hx hb dJ2_remove_2_4 rfl hl (by decide) rfl (fun ls hl => ?_)
  refine lv_aload_n hx hb dJ2_remove_2_5 rfl (lv_at hl 1 rfl) ?_
  refine g_get (C := RJ2) (T := TJ2) (N := 3) M hR gOL_a rfl in_J2 2 (by decide) q114 (fun x h => h) rfl dJ2_remove_2_6 ?_
  refine lv_istore_n (lv' := [(3, _), (2, _), (0, _), (1, _)]) hx hb dJ2_remove_2_9 rfl hl (by decide) rfl (fun ls hl => ?_)
  refine lv_iconst (v := (0 : Int32)) hx hb dJ2_remove_2_10 (by decide) ?_
  refine lv_istore (lv' := [(4, _), (3, _), (2, _), (0, _), (1, _)]) hx hb dJ2_remove_2_11 hl (by decide) rfl (fun ls hl => ?_)
  refine lv_aload_n hx hb dJ2_remove_2_13 rfl (lv_at hl 4 rfl) ?_
  refine lv_ifnonnull (tgt := 39) hx hb dJ2_remove_2_14 (by decide) ?_
  refine g_loop (pc := 39) (fun (k : Nat) (ls : Array Slot) (G9 : gG) (cells slots : Nat) => ∃ i, lv_has ls 5 [(4, .int (nI i)), (3, .int (nI xs.length)), (2, .ref arr), (1, .ref v), (0, .ref a)] ∧ i ≤ j ∧ k = j - i ∧ G9 = gOL K G a mo arr xs.length cap f ∧ cells = 0 ∧ slots = 0) ?_ (j) ⟨0, lv_sub hl [0, 1, 2, 4, 3] rfl, Nat.zero_le _, rfl, rfl, rfl, rfl⟩ hR hS
  intro k ls G9 H locs cells slots hI hR hS ih39
  obtain ⟨i, hl, hij, rfl, rfl, rfl, rfl⟩ := hI
  refine lv_iload hx hb dJ2_remove_2_39 (lv_at hl 0 rfl) ?_
  refine lv_iload_n hx hb dJ2_remove_2_41 rfl (lv_at hl 1 rfl) ?_
  refine lv_icmp_ge (tgt := 65) hx hb dJ2_remove_2_42 (by decide) (fun c42 => absurd c42 (nI_ge (by omega) (by omega))) (fun c42 => ?_)
  refine lv_aload_n hx hb dJ2_remove_2_45 rfl (lv_at hl 3 rfl) ?_
  refine lv_aload_n hx hb dJ2_remove_2_46 rfl (lv_at hl 2 rfl) ?_
  refine lv_iload hx hb dJ2_remove_2_47 (lv_at hl 0 rfl) ?_
  refine g_qld M hR (gOL_arr har) i rfl (by omega) (by omega) (show va_rf (f i) = .ref xs[i] from congrArg va_rf (hok.2.2 i (by omega))) dJ2_remove_2_49 ?_
  refine g_eq M hR hS (hvO) h34 hl.1 dJ2_remove_2_50 (Nat.le_of_ble_eq_true rfl) (Nat.le_of_ble_eq_true rfl) ⟨(by first | exact Nat.le_refl _ | exact Nat.zero_le _ | (dsimp only; omega)), (by first | exact Nat.le_refl _ | exact Nat.zero_le _ | (dsimp only; omega))⟩ (Nat.le_of_ble_eq_true rfl) (fun H locs hR hS => ?_)
  refine lv_if_eq (tgt := 59) hx hb dJ2_remove_2_53 (by decide) (fun c53 => ?_) (fun c53 => ?_)
  · have he : ¬ v = xs[i] := of_decide_eq_false (bI_0.mp c53)
    have hi9 : ¬ i = j := fun z => by subst z; exact he hxj.symm
    refine g_inc (lv' := [(4, _), (3, _), (2, _), (1, _), (0, _)]) M dJ2_remove_2_59 hl (k := 0) rfl (by decide) rfl (fun ls hl => ?_)
    refine lv_goto (tgt := 39) hx hb dJ2_remove_2_62 (by decide) ?_
    exact ih39 (j - (i + 1)) _ _ _ _ _ _ (by omega) ⟨i + 1, lv_sub hl [0, 1, 2, 3, 4] rfl, by omega, by omega, rfl, rfl, rfl⟩ hR hS
  · have he : v = xs[i] := of_decide_eq_true (bI_n0.mp c53)
    have hi9 : i = j := by rcases Nat.lt_or_ge i j with q | q; exact absurd he.symm (hfst i q); omega
    subst hi9
    refine lv_goto (tgt := 67) hx hb dJ2_remove_2_56 (by decide) ?_
    refine lv_aload_n hx hb dJ2_remove_2_67 rfl (lv_at hl 4 rfl) ?_
    refine lv_aload_n hx hb dJ2_remove_2_68 rfl (lv_at hl 2 rfl) ?_
    refine lv_iload hx hb dJ2_remove_2_69 (lv_at hl 0 rfl) ?_
    refine g_kv (g_V (As := [_, _]) M hR hS (c_J2_fastRemove l K hok har9 hel i hj hn60) (lw_V q401 q403 qs4 q64 q404) 2 md_J2_fastRemove rfl ⟨rfl, rfl⟩ ⟨Nat.le_of_ble_eq_true rfl, Nat.le_of_ble_eq_true rfl⟩ (hR.recv M gOL_a rfl) rfl hl.1 rfl (lv_room (Nat.le_of_ble_eq_true rfl)) dJ2_remove_2_71 ⟨(by first | exact Nat.le_refl _ | exact Nat.zero_le _ | (dsimp only; omega)), (by first | exact Nat.le_refl _ | exact Nat.zero_le _ | (dsimp only; omega))⟩) hS (fun G71 H locs hp71 hR hS => ?_)
    obtain ⟨mo2, f2, hok2, rfl⟩ := hp71
    have hR := hR.shut (er_len hj) hok2 har9
    refine lv_iconst (v := (1 : Int32)) hx hb dJ2_remove_2_74 (by decide) ?_
    exact g_zret M hr hlk (by first | rfl | exact bI_nar _) hR hS (by omega) (by omega) dJ2_remove_2_75 (⟨rfl, rfl⟩)

theorem md_J2_indexOfRange : gMd yJ2_indexOfRange 3 := by
  unfold gMd
  decide +kernel
set_option maxHeartbeats 4000000 in
set_option maxRecDepth 100000 in
theorem c_J2_indexOfRange (l : Launch) (K : gK) {G : gG} {a : Nat} {xs : List Nat} (ha : G a = some (.inr (.inl xs))) {v ci : Nat} {fs : List Value} (hv : G v = some (.inl (.inr (ci, fs)))) (h34 : ci = 3 ∨ ci = 4) (j : Nat) (hj : j < xs.length) (hxj : xs[j] = v) (hfst : ∀ (i : Nat) (h : i < j), xs[i] ≠ v)  : Met l yJ2_indexOfRange (ws_ yJ2_indexOfRange cJ2_indexOfRange 6 (Option.some Jvm.ClassFile.FieldType.int)) (gRm 1 0 0 40) (gPre K [.ref a, .ref v, .int (nI 0), .int (nI xs.length)] G) (gQi K (fun r G1 => r = nI j ∧ G1 = G)) 0 0 (gA K) := by
  refine g_met (by decide) (Nat.le_of_ble_eq_true rfl) ?_
  intro p e s m below meth c M hr hlk hnm hR ls hl
  have M : gM K p s m _ c cJ2_indexOfRange 6 RJ2 := M
  have hx := M.hx
  have hb := M.hb
  have hS : va_S (gA K) s.heap s.heap [] := va_S.rf
  have hl : lv_has ls 6 [(0, .ref a), (1, .ref v), (2, .int (nI 0)), (3, .int (nI xs.length))] := hl
  have hRc := hR
  obtain ⟨mo, cap, f, arr, hok, har9, hR⟩ := hR.opn ha
  have har := har9.1
  have hle := hok.1
  have hle2 := hok.2.1
  have hvO : gOL K G a mo arr xs.length cap f v = some (.inl (.inr (ci, fs))) := (gOL_n ((show gOb G v from Or.inl ⟨ci, fs, by omega, by omega, hv⟩).nar har9) (fun z => by rw [z, ha] at hv; cases hv)).trans hv
  refine lv_aload_n hx hb dJ2_indexOfRange_0 rfl (lv_at hl 0 rfl) ?_
  refine g_get (C := RJ2) (T := TJ2) (N := 3) M hR gOL_a rfl in_J2 1 (by decide) q113 (fun x h => h) rfl dJ2_indexOfRange_1 ?_
  refine lv_astore (lv' := [(4, _), (0, _), (1, _), (2, _), (3, _)]) hx hb dJ2_indexOfRange_4 hl (by decide) rfl (fun ls hl => ?_)
  refine lv_aload_n hx hb dJ2_indexOfRange_6 rfl (lv_at hl 2 rfl) ?_
  refine lv_ifnonnull (tgt := 39) hx hb dJ2_indexOfRange_7 (by decide) ?_
  refine lv_iload_n hx hb dJ2_indexOfRange_39 rfl (lv_at hl 3 rfl) ?_
  refine lv_istore (lv' := [(5, _), (4, _), (0, _), (1, _), (2, _), (3, _)]) hx hb dJ2_indexOfRange_40 hl (by decide) rfl (fun ls hl => ?_)
  refine g_loop (pc := 42) (fun (k : Nat) (ls : Array Slot) (G9 : gG) (cells slots : Nat) => ∃ i, lv_has ls 6 [(5, .int (nI i)), (3, .int (nI xs.length)), (4, .ref arr), (1, .ref v), (0, .ref a)] ∧ i ≤ j ∧ k = j - i ∧ G9 = gOL K G a mo arr xs.length cap f ∧ cells = 0 ∧ slots = 0) ?_ (j) ⟨0, lv_sub hl [0, 5, 1, 3, 2] rfl, Nat.zero_le _, rfl, rfl, rfl, rfl⟩ hR hS
  intro k ls G9 H locs cells slots hI hR hS ih42
  obtain ⟨i, hl, hij, rfl, rfl, rfl, rfl⟩ := hI
  refine lv_iload hx hb dJ2_indexOfRange_42 (lv_at hl 0 rfl) ?_
  refine lv_iload_n hx hb dJ2_indexOfRange_44 rfl (lv_at hl 1 rfl) ?_
  refine lv_icmp_ge (tgt := 69) hx hb dJ2_indexOfRange_45 (by decide) (fun c45 => absurd c45 (nI_ge (by omega) (by omega))) (fun c45 => ?_)
  refine lv_aload_n hx hb dJ2_indexOfRange_48 rfl (lv_at hl 3 rfl) ?_
  refine lv_aload hx hb dJ2_indexOfRange_49 (lv_at hl 2 rfl) ?_
  refine lv_iload hx hb dJ2_indexOfRange_51 (lv_at hl 0 rfl) ?_
  refine g_qld M hR (gOL_arr har) i rfl (by omega) (by omega) (show va_rf (f i) = .ref xs[i] from congrArg va_rf (hok.2.2 i (by omega))) dJ2_indexOfRange_53 ?_
  refine g_eq M hR hS (hvO) h34 hl.1 dJ2_indexOfRange_54 (Nat.le_of_ble_eq_true rfl) (Nat.le_of_ble_eq_true rfl) ⟨(by first | exact Nat.le_refl _ | exact Nat.zero_le _ | (dsimp only; omega)), (by first | exact Nat.le_refl _ | exact Nat.zero_le _ | (dsimp only; omega))⟩ (Nat.le_of_ble_eq_true rfl) (fun H locs hR hS => ?_)
  refine lv_if_eq (tgt := 63) hx hb dJ2_indexOfRange_57 (by decide) (fun c57 => ?_) (fun c57 => ?_)
  · have he : ¬ v = xs[i] := of_decide_eq_false (bI_0.mp c57)
    have hi9 : ¬ i = j := fun z => by subst z; exact he hxj.symm
    refine g_inc (lv' := [(5, _), (3, _), (4, _), (1, _), (0, _)]) M dJ2_indexOfRange_63 hl (k := 0) rfl (by decide) rfl (fun ls hl => ?_)
    refine lv_goto (tgt := 42) hx hb dJ2_indexOfRange_66 (by decide) ?_
    exact ih42 (j - (i + 1)) _ _ _ _ _ _ (by omega) ⟨i + 1, lv_sub hl [0, 1, 2, 3, 4] rfl, by omega, by omega, rfl, rfl, rfl⟩ hR hS
  · have he : v = xs[i] := of_decide_eq_true (bI_n0.mp c57)
    have hi9 : i = j := by rcases Nat.lt_or_ge i j with q | q; exact absurd he.symm (hfst i q); omega
    refine lv_iload hx hb dJ2_indexOfRange_60 (lv_at hl 0 rfl) ?_
    have hR := hR.shut rfl hok har9
    rw [oU_same ha] at hR
    exact g_iret M hr hlk hR hS (by omega) (by omega) dJ2_indexOfRange_62 (⟨by rw [hi9], rfl⟩)

theorem md_J2_indexOf : gMd yJ2_indexOf 1 := by
  unfold gMd
  decide +kernel
set_option maxHeartbeats 4000000 in
set_option maxRecDepth 100000 in
theorem c_J2_indexOf (l : Launch) (K : gK) {G : gG} {a : Nat} {xs : List Nat} (ha : G a = some (.inr (.inl xs))) {v ci : Nat} {fs : List Value} (hv : G v = some (.inl (.inr (ci, fs)))) (h34 : ci = 3 ∨ ci = 4) (j : Nat) (hj : j < xs.length) (hxj : xs[j] = v) (hfst : ∀ (i : Nat) (h : i < j), xs[i] ≠ v)  : Met l yJ2_indexOf (ws_ yJ2_indexOf cJ2_indexOf 2 (Option.some Jvm.ClassFile.FieldType.int)) (gRm 2 0 0 65) (gPre K [.ref a, .ref v] G) (gQi K (fun r G1 => r = nI j ∧ G1 = G)) 0 0 (gA K) := by
  refine g_met (by decide) (Nat.le_of_ble_eq_true rfl) ?_
  intro p e s m below meth c M hr hlk hnm hR ls hl
  have M : gM K p s m _ c cJ2_indexOf 2 RJ2 := M
  have hx := M.hx
  have hb := M.hb
  have hS : va_S (gA K) s.heap s.heap [] := va_S.rf
  have hl : lv_has ls 2 [(0, .ref a), (1, .ref v)] := hl
  refine lv_aload_n hx hb dJ2_indexOf_0 rfl (lv_at hl 0 rfl) ?_
  refine lv_aload_n hx hb dJ2_indexOf_1 rfl (lv_at hl 1 rfl) ?_
  refine lv_iconst (v := (0 : Int32)) hx hb dJ2_indexOf_2 (by decide) ?_
  refine lv_aload_n hx hb dJ2_indexOf_3 rfl (lv_at hl 0 rfl) ?_
  obtain ⟨mo, cap, f, arr, hok, har9, hR2⟩ := hR.opn ha
  have hR0 := hR
  have hR := hR2
  refine g_get (C := RJ2) (T := TJ2) (N := 3) M hR gOL_a rfl in_J2 2 (by decide) q114 (fun x h => h) rfl dJ2_indexOf_4 ?_
  have hR := hR0
  refine g_ki (g_V (As := [_, _, _]) M hR hS (c_J2_indexOfRange l K ha hv h34 j hj hxj hfst) (lw_V q566 q567 q568 q64 q569) 3 md_J2_indexOfRange rfl ⟨rfl, rfl⟩ ⟨Nat.le_of_ble_eq_true rfl, Nat.le_of_ble_eq_true rfl⟩ (hR.recvL M ha) rfl hl.1 rfl (lv_room (Nat.le_of_ble_eq_true rfl)) dJ2_indexOf_7 ⟨(by first | exact Nat.le_refl _ | exact Nat.zero_le _ | (dsimp only; omega)), (by first | exact Nat.le_refl _ | exact Nat.zero_le _ | (dsimp only; omega))⟩) hS (fun r7 G7 H locs hp7 hR hS => ?_)
  obtain ⟨rfl, e7⟩ := hp7
  rw [e7] at hR
  exact g_iret M hr hlk hR hS (by omega) (by omega) dJ2_indexOf_10 (⟨rfl, rfl⟩)
