/-! THE REFERENCE: ways, values, conflicts (rows printed by tools/p21.py) -/
theorem md_X2_comesTo : gMd yX2_comesTo 2 := by
  unfold gMd
  decide +kernel
set_option maxHeartbeats 4000000 in
set_option maxRecDepth 100000 in
theorem c_X2_comesTo (l : Launch) (K : gK) {G0 : gG} {A : Nat → Nat} {V : tV} {F : Nat → Int32} (hA : tInj A) (hF : V.2.1 1 = F) (w to : Int32) {P N : Nat} (ok : fOk F P N) : Met l yX2_comesTo (ws_ yX2_comesTo cX2_comesTo 6 (Option.some Jvm.ClassFile.FieldType.boolean)) (gRm 4 0 0 88) (gPre K [.ref (A 0), .int w, .int to] (tG K G0 A V)) (gQi K (fun r G1 => r = bI (fCm F N to 16 w) ∧ G1 = tG K G0 A V)) 0 0 (gA K) := by
  refine g_met (by decide) (Nat.le_of_ble_eq_true rfl) ?_
  intro p e s m below meth c M hr hlk hnm hR ls hl
  have M : gM K p s m _ c cX2_comesTo 6 RX2 := M
  have hx := M.hx
  have hb := M.hb
  have hS : va_S (gA K) s.heap s.heap [] := va_S.rf
  have hl : lv_has ls 6 [(0, .ref (A 0)), (1, .int w), (2, .int to)] := hl
  have hF0 := hF
  have hN := ok.hN
  have hN2 := ok.hN2
  refine lv_iload_n hx hb dX2_comesTo_0 rfl (lv_at hl 1 rfl) ?_
  refine lv_istore_n (lv' := [(3, _), (0, _), (1, _), (2, _)]) hx hb dX2_comesTo_1 rfl hl (by decide) rfl (fun ls hl => ?_)
  refine lv_iconst (v := (0 : Int32)) hx hb dX2_comesTo_2 (by decide) ?_
  refine lv_istore (lv' := [(4, _), (3, _), (0, _), (1, _), (2, _)]) hx hb dX2_comesTo_3 hl (by decide) rfl (fun ls hl => ?_)
  refine g_loop (pc := 5) (fun (k : Nat) (ls : Array Slot) (G : gG) (cells slots : Nat) => ∃ j, lv_has ls 6 [(4, .int (nI j)), (3, .int (fIt F N w j)), (2, .int to), (0, .ref (A 0))] ∧ j ≤ 16 ∧ k = 16 - j ∧ fCm F N to 16 w = fCm F N to (16 - j) (fIt F N w j) ∧ G = tG K G0 A V ∧ cells = 0 ∧ slots = 0) ?_ (16) ⟨0, lv_sub hl [0, 1, 4, 2] rfl, by omega, rfl, rfl, rfl, rfl, rfl⟩ hR hS
  intro k ls G H locs cells slots hI hR hS ih5
  obtain ⟨j, hl, hj, rfl, he, rfl, rfl, rfl⟩ := hI
  refine lv_iload hx hb dX2_comesTo_5 (lv_at hl 0 rfl) ?_
  refine lv_bipush (v := (16 : Int32)) hx hb dX2_comesTo_7 (by decide) ?_
  refine lv_icmp_ge (tgt := 61) hx hb dX2_comesTo_9 (by decide) (fun c9 => ?_) (fun c9 => ?_)
  · refine lv_iconst (v := (0 : Int32)) hx hb dX2_comesTo_61 (by decide) ?_
    exact g_zret M hr hlk (by first | rfl | exact bI_nar _) hR hS (by omega) (by omega) dX2_comesTo_62 (⟨by have h16 : j = 16 := eq_of_ge (n := 16) c9 hj (by decide); subst h16; rw [he]; rfl, rfl⟩)
  · have hj16 : j < 16 := lt_of_not (n := 16) c9 (by omega)
    refine lv_aload_n hx hb dX2_comesTo_12 rfl (lv_at hl 3 rfl) ?_
    refine lv_iload_n hx hb dX2_comesTo_13 rfl (lv_at hl 1 rfl) ?_
    refine g_ki (g_V (As := [_]) M hR hS (c_X2_ruling l K hA (by first | assumption | rfl) _ (by assumption)) (lw_V q1274 q1276 qs45 q73 q1277) 1 md_X2_ruling rfl ⟨rfl, rfl⟩ ⟨Nat.le_of_ble_eq_true rfl, Nat.le_of_ble_eq_true rfl⟩ (hR.recv M (tG_0 hA) rfl) rfl hl.1 rfl (lv_room (Nat.le_of_ble_eq_true rfl)) dX2_comesTo_14 ⟨(by first | exact Nat.le_refl _ | exact Nat.zero_le _ | (dsimp only; omega)), (by first | exact Nat.le_refl _ | exact Nat.zero_le _ | (dsimp only; omega))⟩) hS (fun r14 G14 H locs hp14 hR hS => ?_)
    obtain ⟨rfl, rfl⟩ := hp14
    refine lv_istore (lv' := [(5, _), (4, _), (3, _), (2, _), (0, _)]) hx hb dX2_comesTo_17 hl (by decide) rfl (fun ls hl => ?_)
    refine lv_iload hx hb dX2_comesTo_19 (lv_at hl 0 rfl) ?_
    refine lv_bipush (v := ((-5) : Int32)) hx hb dX2_comesTo_21 (by decide) ?_
    refine lv_icmp_eq (tgt := 38) hx hb dX2_comesTo_23 (by decide) (fun c23 => ?_) (fun c23 => ?_)
    · have hz : fCm F N to 16 w = false := cm_0 hj16 he (fLk_n (oI_n c23 (fun b h => by have := fRul_lt h; omega)))
      refine lv_iconst (v := (0 : Int32)) hx hb dX2_comesTo_38 (by decide) ?_
      exact g_zret M hr hlk (by first | rfl | exact bI_nar _) hR hS (by omega) (by omega) dX2_comesTo_39 (⟨by rw [hz]; rfl, rfl⟩)
    · obtain ⟨b, hb1⟩ := oI_s c23
      have hb2 := fRul_lt hb1
      rw [hb1] at hl
      have hk := fLk_r hb1
      refine lv_aload_n hx hb dX2_comesTo_26 rfl (lv_at hl 4 rfl) ?_
      refine lv_iload hx hb dX2_comesTo_27 (lv_at hl 0 rfl) ?_
      refine lv_iconst (v := (2 : Int32)) hx hb dX2_comesTo_29 (by decide) ?_
      refine g_ki (g_V (As := [_, _]) M hR hS (c_X2_of l K hA (by first | assumption | rfl) b 2 (by omega)) (lw_V q1153 q1155 qs27 q73 q1156) 2 md_X2_of rfl ⟨rfl, rfl⟩ ⟨Nat.le_of_ble_eq_true rfl, Nat.le_of_ble_eq_true rfl⟩ (hR.recv M (tG_0 hA) rfl) rfl hl.1 rfl (lv_room (Nat.le_of_ble_eq_true rfl)) dX2_comesTo_30 ⟨(by first | exact Nat.le_refl _ | exact Nat.zero_le _ | (dsimp only; omega)), (by first | exact Nat.le_refl _ | exact Nat.zero_le _ | (dsimp only; omega))⟩) hS (fun r30 G30 H locs hp30 hR hS => ?_)
      obtain ⟨rfl, rfl⟩ := hp30
      refine lv_bipush (v := ((-5) : Int32)) hx hb dX2_comesTo_33 (by decide) ?_
      refine lv_icmp_ne (tgt := 40) hx hb dX2_comesTo_35 (by decide) (fun c35 => ?_) (fun c35 => ?_)
      · have hk5 : fLk F N (fIt F N w j) ≠ -5 := fun z => c35 (hk.symm.trans z)
        refine lv_aload_n hx hb dX2_comesTo_40 rfl (lv_at hl 4 rfl) ?_
        refine lv_iload hx hb dX2_comesTo_41 (lv_at hl 0 rfl) ?_
        refine lv_iconst (v := (2 : Int32)) hx hb dX2_comesTo_43 (by decide) ?_
        refine g_ki (g_V (As := [_, _]) M hR hS (c_X2_of l K hA (by first | assumption | rfl) b 2 (by omega)) (lw_V q1153 q1155 qs27 q73 q1156) 2 md_X2_of rfl ⟨rfl, rfl⟩ ⟨Nat.le_of_ble_eq_true rfl, Nat.le_of_ble_eq_true rfl⟩ (hR.recv M (tG_0 hA) rfl) rfl hl.1 rfl (lv_room (Nat.le_of_ble_eq_true rfl)) dX2_comesTo_44 ⟨(by first | exact Nat.le_refl _ | exact Nat.zero_le _ | (dsimp only; omega)), (by first | exact Nat.le_refl _ | exact Nat.zero_le _ | (dsimp only; omega))⟩) hS (fun r44 G44 H locs hp44 hR hS => ?_)
        obtain ⟨rfl, rfl⟩ := hp44
        refine lv_istore_n (lv' := [(3, _), (5, _), (4, _), (2, _), (0, _)]) hx hb dX2_comesTo_47 rfl hl (by decide) rfl (fun ls hl => ?_)
        rw [← hk] at hl
        refine lv_iload_n hx hb dX2_comesTo_48 rfl (lv_at hl 0 rfl) ?_
        refine lv_iload_n hx hb dX2_comesTo_49 rfl (lv_at hl 3 rfl) ?_
        refine lv_icmp_ne (tgt := 55) hx hb dX2_comesTo_50 (by decide) (fun c50 => ?_) (fun c50 => ?_)
        · refine g_inc (lv' := [(4, _), (3, _), (5, _), (2, _), (0, _)]) M dX2_comesTo_55 hl (k := 2) rfl (by decide) rfl (fun ls hl => ?_)
          refine lv_goto (tgt := 5) hx hb dX2_comesTo_58 (by decide) ?_
          exact ih5 (16 - (j + 1)) _ _ _ _ _ _ (by omega) ⟨j + 1, lv_sub hl [0, 1, 3, 4] rfl, by omega, rfl, cm_2 hj16 he hk5 c50, rfl, rfl, rfl⟩ hR hS
        · refine lv_iconst (v := (1 : Int32)) hx hb dX2_comesTo_53 (by decide) ?_
          exact g_zret M hr hlk (by first | rfl | exact bI_nar _) hR hS (by omega) (by omega) dX2_comesTo_54 (⟨by rw [cm_1 hj16 he hk5 c50]; rfl, rfl⟩)
      · have hz : fCm F N to 16 w = false := cm_0 hj16 he (hk.trans c35)
        refine lv_iconst (v := (0 : Int32)) hx hb dX2_comesTo_38 (by decide) ?_
        exact g_zret M hr hlk (by first | rfl | exact bI_nar _) hR hS (by omega) (by omega) dX2_comesTo_39 (⟨by rw [hz]; rfl, rfl⟩)

theorem md_X2_dependents : gMd yX2_dependents 1 := by
  unfold gMd
  decide +kernel
set_option maxHeartbeats 4000000 in
set_option maxRecDepth 100000 in
theorem c_X2_dependents (l : Launch) (K : gK) {G0 : gG} {A : Nat → Nat} {V : tV} {F : Nat → Int32} (hA : tInj A) (hF : V.2.1 1 = F) (w : Int32) {P N : Nat} (ok : fOk F P N) : Met l yX2_dependents (ws_ yX2_dependents cX2_dependents 4 (Option.some Jvm.ClassFile.FieldType.int)) (gRm 5 0 0 113) (gPre K [.ref (A 0), .int w] (tG K G0 A V)) (gQi K (fun r G1 => r = fBits (fun u => fCm F N w 16 (nI u)) nI 16 ∧ G1 = tG K G0 A V)) 0 0 (gA K) := by
  refine g_met (by decide) (Nat.le_of_ble_eq_true rfl) ?_
  intro p e s m below meth c M hr hlk hnm hR ls hl
  have M : gM K p s m _ c cX2_dependents 4 RX2 := M
  have hx := M.hx
  have hb := M.hb
  have hS : va_S (gA K) s.heap s.heap [] := va_S.rf
  have hl : lv_has ls 4 [(0, .ref (A 0)), (1, .int w)] := hl
  have hF0 := hF
  have hN := ok.hN
  have hN2 := ok.hN2
  refine lv_iconst (v := (0 : Int32)) hx hb dX2_dependents_0 (by decide) ?_
  refine lv_istore_n (lv' := [(2, _), (0, _), (1, _)]) hx hb dX2_dependents_1 rfl hl (by decide) rfl (fun ls hl => ?_)
  refine lv_iconst (v := (0 : Int32)) hx hb dX2_dependents_2 (by decide) ?_
  refine lv_istore_n (lv' := [(3, _), (2, _), (0, _), (1, _)]) hx hb dX2_dependents_3 rfl hl (by decide) rfl (fun ls hl => ?_)
  refine g_loop (pc := 4) (fun (k : Nat) (ls : Array Slot) (G : gG) (cells slots : Nat) => ∃ j, lv_has ls 4 [(3, .int (nI j)), (2, .int (fBits (fun u => fCm F N w 16 (nI u)) nI j)), (1, .int w), (0, .ref (A 0))] ∧ j ≤ 16 ∧ k = 16 - j ∧ G = tG K G0 A V ∧ cells = 0 ∧ slots = 0) ?_ (16) ⟨0, lv_sub hl [0, 1, 3, 2] rfl, by omega, rfl, rfl, rfl, rfl⟩ hR hS
  intro k ls G H locs cells slots hI hR hS ih4
  obtain ⟨j, hl, hj, rfl, rfl, rfl, rfl⟩ := hI
  refine lv_iload_n hx hb dX2_dependents_4 rfl (lv_at hl 0 rfl) ?_
  refine lv_bipush (v := (16 : Int32)) hx hb dX2_dependents_5 (by decide) ?_
  refine lv_icmp_ge (tgt := 35) hx hb dX2_dependents_7 (by decide) (fun c7 => ?_) (fun c7 => ?_)
  · refine lv_iload_n hx hb dX2_dependents_35 rfl (lv_at hl 1 rfl) ?_
    exact g_iret M hr hlk hR hS (by omega) (by omega) dX2_dependents_36 (⟨by have h16 : j = 16 := eq_of_ge (n := 16) c7 hj (by decide); subst h16; rfl, rfl⟩)
  · have hj16 : j < 16 := lt_of_not (n := 16) c7 (by omega)
    refine lv_iload_n hx hb dX2_dependents_10 rfl (lv_at hl 1 rfl) ?_
    refine lv_aload_n hx hb dX2_dependents_11 rfl (lv_at hl 3 rfl) ?_
    refine lv_iload_n hx hb dX2_dependents_12 rfl (lv_at hl 0 rfl) ?_
    refine lv_iload_n hx hb dX2_dependents_13 rfl (lv_at hl 2 rfl) ?_
    refine g_ki (g_V (As := [_, _]) M hR hS (c_X2_comesTo l K hA (by first | assumption | rfl) _ _ (by assumption)) (lw_V q1324 q1326 qs55 q73 q1327) 2 md_X2_comesTo rfl ⟨rfl, rfl⟩ ⟨Nat.le_of_ble_eq_true rfl, Nat.le_of_ble_eq_true rfl⟩ (hR.recv M (tG_0 hA) rfl) rfl hl.1 rfl (lv_room (Nat.le_of_ble_eq_true rfl)) dX2_dependents_14 ⟨(by first | exact Nat.le_refl _ | exact Nat.zero_le _ | (dsimp only; omega)), (by first | exact Nat.le_refl _ | exact Nat.zero_le _ | (dsimp only; omega))⟩) hS (fun r14 G14 H locs hp14 hR hS => ?_)
    obtain ⟨rfl, rfl⟩ := hp14
    refine lv_if_eq (tgt := 26) hx hb dX2_dependents_17 (by decide) (fun c17 => ?_) (fun c17 => ?_)
    · refine lv_iconst (v := (0 : Int32)) hx hb dX2_dependents_26 (by decide) ?_
      refine lv_ior hx hb dX2_dependents_27 ?_
      refine g_topi (fBits (fun u => fCm F N w 16 (nI u)) nI (j + 1)) (bits_f (q := (fun u => fCm F N w 16 (nI u))) c17) ?_
      refine lv_istore_n (lv' := [(2, _), (3, _), (1, _), (0, _)]) hx hb dX2_dependents_28 rfl hl (by decide) rfl (fun ls hl => ?_)
      refine g_inc (lv' := [(3, _), (2, _), (1, _), (0, _)]) M dX2_dependents_29 hl (k := 1) rfl (by decide) rfl (fun ls hl => ?_)
      refine lv_goto (tgt := 4) hx hb dX2_dependents_32 (by decide) ?_
      exact ih4 (16 - (j + 1)) _ _ _ _ _ _ (by omega) ⟨j + 1, lv_sub hl [0, 1, 2, 3] rfl, by omega, rfl, rfl, rfl, rfl⟩ hR hS
    · refine lv_iconst (v := (1 : Int32)) hx hb dX2_dependents_20 (by decide) ?_
      refine lv_iload_n hx hb dX2_dependents_21 rfl (lv_at hl 0 rfl) ?_
      refine lv_ishl hx hb dX2_dependents_22 ?_
      refine lv_goto (tgt := 27) hx hb dX2_dependents_23 (by decide) ?_
      refine lv_ior hx hb dX2_dependents_27 ?_
      refine g_topi (fBits (fun u => fCm F N w 16 (nI u)) nI (j + 1)) (bits_t (q := (fun u => fCm F N w 16 (nI u))) (b := nI) (bI_n0.mp c17)) ?_
      refine lv_istore_n (lv' := [(2, _), (3, _), (1, _), (0, _)]) hx hb dX2_dependents_28 rfl hl (by decide) rfl (fun ls hl => ?_)
      refine g_inc (lv' := [(3, _), (2, _), (1, _), (0, _)]) M dX2_dependents_29 hl (k := 1) rfl (by decide) rfl (fun ls hl => ?_)
      refine lv_goto (tgt := 4) hx hb dX2_dependents_32 (by decide) ?_
      exact ih4 (16 - (j + 1)) _ _ _ _ _ _ (by omega) ⟨j + 1, lv_sub hl [0, 1, 2, 3] rfl, by omega, rfl, rfl, rfl, rfl⟩ hR hS

theorem md_X2_one : gMd yX2_one 0 := by
  unfold gMd
  decide +kernel
set_option maxHeartbeats 4000000 in
set_option maxRecDepth 100000 in
theorem c_X2_one (l : Launch) (K : gK) {G : gG} : Met l yX2_one (ws_ yX2_one cX2_one 0 (Option.some Jvm.ClassFile.FieldType.int)) (gRm 1 0 0 60) (gPre K [] G) (gQi K (fun r G1 => r = 1065353216 ∧ G1 = G)) 0 0 (gA K) := by
  refine g_met (by decide) (Nat.le_of_ble_eq_true rfl) ?_
  intro p e s m below meth c M hr hlk hnm hR ls hl
  have M : gM K p s m _ c cX2_one 0 RX2 := M
  have hx := M.hx
  have hb := M.hb
  have hS : va_S (gA K) s.heap s.heap [] := va_S.rf
  have hl : lv_has ls 0 [] := hl
  refine lv_fconst1 hx hb dX2_one_0 ?_
  refine g_f2i M hl.1 q1131 q435 q434 q78 dX2_one_1 (Nat.le_of_ble_eq_true rfl) (Nat.le_of_ble_eq_true rfl) ?_
  exact g_iret M hr hlk hR hS (by omega) (by omega) dX2_one_4 (⟨rfl, rfl⟩)

theorem md_X2_bitsOf : gMd yX2_bitsOf 1 := by
  unfold gMd
  decide +kernel
set_option maxHeartbeats 4000000 in
set_option maxRecDepth 100000 in
theorem c_X2_bitsOf (l : Launch) (K : gK) {G : gG} (a : Int32) : Met l yX2_bitsOf (ws_ yX2_bitsOf cX2_bitsOf 1 (Option.some Jvm.ClassFile.FieldType.int)) (gRm 1 0 0 60) (gPre K [.int a] G) (gQi K (fun r G1 => r = (FP.fdiv (FP.i2f a) 1092616192).toInt32 ∧ G1 = G)) 0 0 (gA K) := by
  refine g_met (by decide) (Nat.le_of_ble_eq_true rfl) ?_
  intro p e s m below meth c M hr hlk hnm hR ls hl
  have M : gM K p s m _ c cX2_bitsOf 1 RX2 := M
  have hx := M.hx
  have hb := M.hb
  have hS : va_S (gA K) s.heap s.heap [] := va_S.rf
  have hl : lv_has ls 1 [(0, .int a)] := hl
  refine lv_iload_n hx hb dX2_bitsOf_0 rfl (lv_at hl 0 rfl) ?_
  refine lv_i2f hx hb dX2_bitsOf_1 ?_
  refine lv_ldcf hx hb M.hown (M.hts _ q1148) dX2_bitsOf_2 ?_
  refine lv_fdiv hx hb dX2_bitsOf_4 (tenth_B a).n32 ?_
  refine g_f2i M hl.1 q1131 q435 q434 q78 dX2_bitsOf_5 (Nat.le_of_ble_eq_true rfl) (Nat.le_of_ble_eq_true rfl) ?_
  exact g_iret M hr hlk hR hS (by omega) (by omega) dX2_bitsOf_8 (⟨rfl, rfl⟩)

theorem md_X2_hundredths : gMd yX2_hundredths 1 := by
  unfold gMd
  decide +kernel
set_option maxHeartbeats 4000000 in
set_option maxRecDepth 100000 in
theorem c_X2_hundredths (l : Launch) (K : gK) {G0 : gG} {A : Nat → Nat} {V : tV} {F : Nat → Int32} (hA : tInj A) (hF : V.2.1 1 = F) (o : Nat) {P N : Nat} (ok : fOk F P N) (ho : o < N) : Met l yX2_hundredths (ws_ yX2_hundredths cX2_hundredths 2 (Option.some Jvm.ClassFile.FieldType.int)) (gRm 2 0 0 82) (gPre K [.ref (A 0), .int (nI o)] (tG K G0 A V)) (gQi K (fun r G1 => r = FP.f2i (FP.fmul (fSg F o) 1120403456) ∧ G1 = tG K G0 A V)) 0 0 (gA K) := by
  refine g_met (by decide) (Nat.le_of_ble_eq_true rfl) ?_
  intro p e s m below meth c M hr hlk hnm hR ls hl
  have M : gM K p s m _ c cX2_hundredths 2 RX2 := M
  have hx := M.hx
  have hb := M.hb
  have hS : va_S (gA K) s.heap s.heap [] := va_S.rf
  have hl : lv_has ls 2 [(0, .ref (A 0)), (1, .int (nI o))] := hl
  have hF0 := hF
  have hN := ok.hN
  have hN2 := ok.hN2
  refine lv_aload_n hx hb dX2_hundredths_0 rfl (lv_at hl 0 rfl) ?_
  refine lv_iload_n hx hb dX2_hundredths_1 rfl (lv_at hl 1 rfl) ?_
  refine lv_iconst (v := (5 : Int32)) hx hb dX2_hundredths_2 (by decide) ?_
  refine g_kf (g_V (As := [_, _]) M hR hS (c_X2_realOf l K hA (by first | assumption | rfl) o 5 (by omega) (ok.re5 ho)) (lw_V q1185 q1187 qs32 q73 q1188) 2 md_X2_realOf rfl ⟨rfl, rfl⟩ ⟨Nat.le_of_ble_eq_true rfl, Nat.le_of_ble_eq_true rfl⟩ (hR.recv M (tG_0 hA) rfl) rfl hl.1 rfl (lv_room (Nat.le_of_ble_eq_true rfl)) dX2_hundredths_3 ⟨(by first | exact Nat.le_refl _ | exact Nat.zero_le _ | (dsimp only; omega)), (by first | exact Nat.le_refl _ | exact Nat.zero_le _ | (dsimp only; omega))⟩) hS (fun r3 G3 H locs hp3 hR hS => ?_)
  obtain ⟨rfl, rfl⟩ := hp3
  refine lv_ldcf hx hb M.hown (M.hts _ q1117) dX2_hundredths_6 ?_
  refine lv_fmul hx hb dX2_hundredths_8 (hund_B (ok.str o ho)) ?_
  refine lv_f2i hx hb dX2_hundredths_9 ?_
  exact g_iret M hr hlk hR hS (by omega) (by omega) dX2_hundredths_10 (⟨rfl, rfl⟩)

theorem md_X2_by : gMd yX2_by 2 := by
  unfold gMd
  decide +kernel
set_option maxHeartbeats 4000000 in
set_option maxRecDepth 100000 in
theorem c_X2_by (l : Launch) (K : gK) {G0 : gG} {A : Nat → Nat} {V : tV} {F : Nat → Int32} (hA : tInj A) (hF : V.2.1 1 = F) (o : Nat) (v : UInt32) {P N : Nat} (ok : fOk F P N) (ho : o < N) (hv : fB v (1000000000 * fU)) : Met l yX2_by (ws_ yX2_by cX2_by 4 (Option.some Jvm.ClassFile.FieldType.float)) (gRm 2 0 0 82) (gPre K [.ref (A 0), .int (nI o), .float v] (tG K G0 A V)) (gQf K (fun r G1 => r = fByR F o v ∧ ∃ V1, G1 = tG K G0 A V1 ∧ tQ [10] V V1 ∧ V1.1 10 = bI (fBy F o v).isSome)) 0 0 (gA K) := by
  refine g_met (by decide) (Nat.le_of_ble_eq_true rfl) ?_
  intro p e s m below meth c M hr hlk hnm hR ls hl
  have M : gM K p s m _ c cX2_by 4 RX2 := M
  have hx := M.hx
  have hb := M.hb
  have hS : va_S (gA K) s.heap s.heap [] := va_S.rf
  have hl : lv_has ls 4 [(0, .ref (A 0)), (1, .int (nI o)), (2, .float v)] := hl
  have hF0 := hF
  have hN := ok.hN
  have hN2 := ok.hN2
  obtain ⟨n1, n2, n3⟩ := by_ok ok ho hv
  refine lv_fload_n hx hb dX2_by_0 rfl (lv_at hl 2 rfl) ?_
  refine lv_aload_n hx hb dX2_by_1 rfl (lv_at hl 0 rfl) ?_
  refine lv_iload_n hx hb dX2_by_2 rfl (lv_at hl 1 rfl) ?_
  refine lv_iconst (v := (3 : Int32)) hx hb dX2_by_3 (by decide) ?_
  refine g_kf (g_V (As := [_, _]) M hR hS (c_X2_realOf l K hA (by first | assumption | rfl) o 3 (by omega) (ok.re3 ho)) (lw_V q1185 q1187 qs32 q73 q1188) 2 md_X2_realOf rfl ⟨rfl, rfl⟩ ⟨Nat.le_of_ble_eq_true rfl, Nat.le_of_ble_eq_true rfl⟩ (hR.recv M (tG_0 hA) rfl) rfl hl.1 rfl (lv_room (Nat.le_of_ble_eq_true rfl)) dX2_by_4 ⟨(by first | exact Nat.le_refl _ | exact Nat.zero_le _ | (dsimp only; omega)), (by first | exact Nat.le_refl _ | exact Nat.zero_le _ | (dsimp only; omega))⟩) hS (fun r4 G4 H locs hp4 hR hS => ?_)
  obtain ⟨rfl, rfl⟩ := hp4
  refine lv_fmul hx hb dX2_by_7 n1 ?_
  refine lv_aload_n hx hb dX2_by_8 rfl (lv_at hl 0 rfl) ?_
  refine lv_iload_n hx hb dX2_by_9 rfl (lv_at hl 1 rfl) ?_
  refine lv_iconst (v := (4 : Int32)) hx hb dX2_by_10 (by decide) ?_
  refine g_kf (g_V (As := [_, _]) M hR hS (c_X2_realOf l K hA (by first | assumption | rfl) o 4 (by omega) (ok.re4 ho)) (lw_V q1185 q1187 qs32 q73 q1188) 2 md_X2_realOf rfl ⟨rfl, rfl⟩ ⟨Nat.le_of_ble_eq_true rfl, Nat.le_of_ble_eq_true rfl⟩ (hR.recv M (tG_0 hA) rfl) rfl hl.1 rfl (lv_room (Nat.le_of_ble_eq_true rfl)) dX2_by_11 ⟨(by first | exact Nat.le_refl _ | exact Nat.zero_le _ | (dsimp only; omega)), (by first | exact Nat.le_refl _ | exact Nat.zero_le _ | (dsimp only; omega))⟩) hS (fun r11 G11 H locs hp11 hR hS => ?_)
  obtain ⟨rfl, rfl⟩ := hp11
  refine lv_fadd hx hb dX2_by_14 n2 ?_
  refine g_topf (fByR F o v) rfl ?_
  refine lv_fstore_n (lv' := [(3, _), (0, _), (1, _), (2, _)]) hx hb dX2_by_15 rfl hl (by decide) rfl (fun ls hl => ?_)
  refine lv_aload_n hx hb dX2_by_16 rfl (lv_at hl 1 rfl) ?_
  refine lv_fload_n hx hb dX2_by_17 rfl (lv_at hl 0 rfl) ?_
  refine lv_ldcf hx hb M.hown (M.hts _ q1286) dX2_by_18 ?_
  refine lv_fcmp hx hb dX2_by_20 ?_
  refine lv_if_lt (tgt := 35) hx hb dX2_by_21 (by decide) (fun c21 => ?_) (fun c21 => ?_)
  · refine lv_iconst (v := (0 : Int32)) hx hb dX2_by_35 (by decide) ?_
    refine t_putQ M hA hR hS 10 (by decide) q1049 ⟨rfl, rfl⟩ (by first | exact bI_nar _ | decide) (by first | exact bI_fit _ | decide) dX2_by_36 (fun V36 H locs hq36 hw36 hz36 hR hS => ?_)
    have hF := hq36.row hF (by decide)
    refine lv_fload_n hx hb dX2_by_39 rfl (lv_at hl 0 rfl) ?_
    exact g_fret M hr hlk hR hS (by omega) (by omega) dX2_by_40 (⟨rfl, _, rfl, (tQ.trans tQ.rf hq36 (by decide)), hw36.trans (by rw [fBy_some]; unfold fRng; rw [decide_eq_false (not_not_intro c21)]; rfl)⟩)
  · refine lv_fload_n hx hb dX2_by_24 rfl (lv_at hl 0 rfl) ?_
    refine lv_ldcf hx hb M.hown (M.hts _ q1287) dX2_by_25 ?_
    refine lv_fcmp hx hb dX2_by_27 ?_
    refine lv_if_gt (tgt := 35) hx hb dX2_by_28 (by decide) (fun c28 => ?_) (fun c28 => ?_)
    · refine lv_iconst (v := (0 : Int32)) hx hb dX2_by_35 (by decide) ?_
      refine t_putQ M hA hR hS 10 (by decide) q1049 ⟨rfl, rfl⟩ (by first | exact bI_nar _ | decide) (by first | exact bI_fit _ | decide) dX2_by_36 (fun V36 H locs hq36 hw36 hz36 hR hS => ?_)
      have hF := hq36.row hF (by decide)
      refine lv_fload_n hx hb dX2_by_39 rfl (lv_at hl 0 rfl) ?_
      exact g_fret M hr hlk hR hS (by omega) (by omega) dX2_by_40 (⟨rfl, _, rfl, (tQ.trans tQ.rf hq36 (by decide)), hw36.trans (by rw [fBy_some]; unfold fRng; rw [decide_eq_false (not_not_intro c28), Bool.and_false]; rfl)⟩)
    · refine lv_iconst (v := (1 : Int32)) hx hb dX2_by_31 (by decide) ?_
      refine lv_goto (tgt := 36) hx hb dX2_by_32 (by decide) ?_
      refine t_putQ M hA hR hS 10 (by decide) q1049 ⟨rfl, rfl⟩ (by first | exact bI_nar _ | decide) (by first | exact bI_fit _ | decide) dX2_by_36 (fun V36 H locs hq36 hw36 hz36 hR hS => ?_)
      have hF := hq36.row hF (by decide)
      refine lv_fload_n hx hb dX2_by_39 rfl (lv_at hl 0 rfl) ?_
      exact g_fret M hr hlk hR hS (by omega) (by omega) dX2_by_40 (⟨rfl, _, rfl, (tQ.trans tQ.rf hq36 (by decide)), hw36.trans (by rw [fBy_some]; unfold fRng; rw [decide_eq_true c21, decide_eq_true c28]; rfl)⟩)

theorem md_X2_lays : gMd yX2_lays 1 := by
  unfold gMd
  decide +kernel
set_option maxHeartbeats 4000000 in
set_option maxRecDepth 100000 in
theorem c_X2_lays (l : Launch) (K : gK) {G0 : gG} {A : Nat → Nat} {V : tV} {F : Nat → Int32} (hA : tInj A) (hF : V.2.1 1 = F) (w : Int32) {P N : Nat} (ok : fOk F P N) : Met l yX2_lays (ws_ yX2_lays cX2_lays 4 (Option.some Jvm.ClassFile.FieldType.int)) (gRm 4 0 0 88) (gPre K [.ref (A 0), .int w] (tG K G0 A V)) (gQi K (fun r G1 => r = oI (fLy F N 17 w) ∧ ∃ V1, G1 = tG K G0 A V1 ∧ tQ [9] V V1 ∧ ∀ L, fLy F N 17 w = some L → ∀ i, i ≤ L → V1.2.1 9 i = oI (fRul F (fIt F N w i) N))) 0 0 (gA K) := by
  refine g_met (by decide) (Nat.le_of_ble_eq_true rfl) ?_
  intro p e s m below meth c M hr hlk hnm hR ls hl
  have M : gM K p s m _ c cX2_lays 4 RX2 := M
  have hx := M.hx
  have hb := M.hb
  have hS : va_S (gA K) s.heap s.heap [] := va_S.rf
  have hl : lv_has ls 4 [(0, .ref (A 0)), (1, .int w)] := hl
  have hF0 := hF
  have hN := ok.hN
  have hN2 := ok.hN2
  refine lv_iload_n hx hb dX2_lays_0 rfl (lv_at hl 1 rfl) ?_
  refine lv_istore_n (lv' := [(2, _), (0, _), (1, _)]) hx hb dX2_lays_1 rfl hl (by decide) rfl (fun ls hl => ?_)
  refine lv_iconst (v := (0 : Int32)) hx hb dX2_lays_2 (by decide) ?_
  refine lv_istore_n (lv' := [(3, _), (2, _), (0, _), (1, _)]) hx hb dX2_lays_3 rfl hl (by decide) rfl (fun ls hl => ?_)
  refine g_loop (pc := 4) (fun (k : Nat) (ls : Array Slot) (G : gG) (cells slots : Nat) => ∃ j V1, lv_has ls 4 [(3, .int (nI j)), (2, .int (fIt F N w j)), (0, .ref (A 0))] ∧ j ≤ 17 ∧ k = 17 - j ∧ fLy F N 17 w = (fLy F N (17 - j) (fIt F N w j)).map (· + j) ∧ (∀ i, i < j → V1.2.1 9 i = oI (fRul F (fIt F N w i) N)) ∧ tQ [9] V V1 ∧ G = tG K G0 A V1 ∧ cells = 0 ∧ slots = 0) ?_ (17) ⟨0, V, lv_sub hl [0, 1, 2] rfl, by omega, rfl, (by show fLy F N 17 w = Option.map (fun x => x + 0) (fLy F N 17 w); cases fLy F N 17 w <;> rfl), fun i hi => absurd hi (Nat.not_lt_zero _), tQ.rf, rfl, rfl, rfl⟩ hR hS
  intro k ls G H locs cells slots hI hR hS ih4
  obtain ⟨j, V1, hl, hj, rfl, he, hg, hs, rfl, rfl, rfl⟩ := hI
  have hF := hs.row hF0 (by decide)
  refine lv_iload_n hx hb dX2_lays_4 rfl (lv_at hl 0 rfl) ?_
  refine lv_bipush (v := (17 : Int32)) hx hb dX2_lays_5 (by decide) ?_
  refine lv_icmp_ge (tgt := 68) hx hb dX2_lays_7 (by decide) (fun c7 => ?_) (fun c7 => ?_)
  · refine lv_bipush (v := ((-5) : Int32)) hx hb dX2_lays_68 (by decide) ?_
    exact g_iret M hr hlk hR hS (by omega) (by omega) dX2_lays_70 (⟨by have h17 : j = 17 := eq_of_ge (n := 17) c7 hj (by decide); subst h17; rw [he]; rfl, _, rfl, (tQ.trans tQ.rf hs (by decide)), fun L hL => by have h17 : j = 17 := eq_of_ge (n := 17) c7 hj (by decide); subst h17; rw [he] at hL; cases hL⟩)
  · have hj17 : j < 17 := lt_of_not (n := 17) c7 (by omega)
    refine lv_aload_n hx hb dX2_lays_10 rfl (lv_at hl 2 rfl) ?_
    refine t_get M hA hR 9 (by decide) q1048 rfl rfl dX2_lays_11 ?_
    refine lv_iload_n hx hb dX2_lays_14 rfl (lv_at hl 0 rfl) ?_
    refine lv_aload_n hx hb dX2_lays_15 rfl (lv_at hl 2 rfl) ?_
    refine lv_iload_n hx hb dX2_lays_16 rfl (lv_at hl 1 rfl) ?_
    refine g_ki (g_V (As := [_]) M hR hS (c_X2_ruling l K hA (by first | assumption | rfl) (fIt F N w j) ok) (lw_V q1274 q1276 qs45 q73 q1277) 1 md_X2_ruling rfl ⟨rfl, rfl⟩ ⟨Nat.le_of_ble_eq_true rfl, Nat.le_of_ble_eq_true rfl⟩ (hR.recv M (tG_0 hA) rfl) rfl hl.1 rfl (lv_room (Nat.le_of_ble_eq_true rfl)) dX2_lays_17 ⟨(by first | exact Nat.le_refl _ | exact Nat.zero_le _ | (dsimp only; omega)), (by first | exact Nat.le_refl _ | exact Nat.zero_le _ | (dsimp only; omega))⟩) hS (fun r17 G17 H locs hp17 hR hS => ?_)
    obtain ⟨rfl, rfl⟩ := hp17
    refine t_astQ M hA hR hS 9 (by decide) rfl j rfl hj17 dX2_lays_20 (fun V20 H locs hq20 hw20 hR hS => ?_)
    have hF := hq20.row hF (by decide)
    refine lv_aload_n hx hb dX2_lays_21 rfl (lv_at hl 2 rfl) ?_
    refine t_get M hA hR 9 (by decide) q1048 rfl rfl dX2_lays_22 ?_
    refine lv_iload_n hx hb dX2_lays_25 rfl (lv_at hl 0 rfl) ?_
    refine t_aldE M hA ((congrFun hw20 j).trans (if_pos rfl)) hR (by decide) rfl hj17 dX2_lays_26 ?_
    refine lv_bipush (v := ((-5) : Int32)) hx hb dX2_lays_27 (by decide) ?_
    refine lv_icmp_eq (tgt := 48) hx hb dX2_lays_29 (by decide) (fun c29 => ?_) (fun c29 => ?_)
    · have hz : fLy F N 17 w = some j := (fLy_at hj17 he).1 (fLk_n (oI_n c29 (fun b h => by have := fRul_lt h; omega)))
      refine lv_iload_n hx hb dX2_lays_48 rfl (lv_at hl 0 rfl) ?_
      exact g_iret M hr hlk hR hS (by omega) (by omega) dX2_lays_49 (⟨by rw [hz]; rfl, _, rfl, (tQ.trans (tQ.trans tQ.rf hs (by decide)) hq20 (by decide)), fun L hL i hi => by rw [hz] at hL; cases hL; exact (congrFun hw20 i).trans (wy_s (q := fun i => oI (fRul F (fIt F N w i) N)) hg rfl i (Nat.lt_succ_of_le hi))⟩)
    · obtain ⟨b, hb1⟩ := oI_s c29
      have hb2 := fRul_lt hb1
      have hk := fLk_r hb1
      refine lv_aload_n hx hb dX2_lays_32 rfl (lv_at hl 2 rfl) ?_
      refine lv_aload_n hx hb dX2_lays_33 rfl (lv_at hl 2 rfl) ?_
      refine t_get M hA hR 9 (by decide) q1048 rfl rfl dX2_lays_34 ?_
      refine lv_iload_n hx hb dX2_lays_37 rfl (lv_at hl 0 rfl) ?_
      refine t_aldE M hA ((congrFun hw20 j).trans ((if_pos rfl).trans (congrArg oI hb1))) hR (by decide) rfl hj17 dX2_lays_38 ?_
      refine lv_iconst (v := (2 : Int32)) hx hb dX2_lays_39 (by decide) ?_
      refine g_ki (g_V (As := [_, _]) M hR hS (c_X2_of l K hA (by first | assumption | rfl) b 2 (by omega)) (lw_V q1153 q1155 qs27 q73 q1156) 2 md_X2_of rfl ⟨rfl, rfl⟩ ⟨Nat.le_of_ble_eq_true rfl, Nat.le_of_ble_eq_true rfl⟩ (hR.recv M (tG_0 hA) rfl) rfl hl.1 rfl (lv_room (Nat.le_of_ble_eq_true rfl)) dX2_lays_40 ⟨(by first | exact Nat.le_refl _ | exact Nat.zero_le _ | (dsimp only; omega)), (by first | exact Nat.le_refl _ | exact Nat.zero_le _ | (dsimp only; omega))⟩) hS (fun r40 G40 H locs hp40 hR hS => ?_)
      obtain ⟨rfl, rfl⟩ := hp40
      refine lv_bipush (v := ((-5) : Int32)) hx hb dX2_lays_43 (by decide) ?_
      refine lv_icmp_ne (tgt := 50) hx hb dX2_lays_45 (by decide) (fun c45 => ?_) (fun c45 => ?_)
      · have hk5 : fLk F N (fIt F N w j) ≠ -5 := fun z => c45 (hk.symm.trans z)
        refine lv_aload_n hx hb dX2_lays_50 rfl (lv_at hl 2 rfl) ?_
        refine lv_aload_n hx hb dX2_lays_51 rfl (lv_at hl 2 rfl) ?_
        refine t_get M hA hR 9 (by decide) q1048 rfl rfl dX2_lays_52 ?_
        refine lv_iload_n hx hb dX2_lays_55 rfl (lv_at hl 0 rfl) ?_
        refine t_aldE M hA ((congrFun hw20 j).trans ((if_pos rfl).trans (congrArg oI hb1))) hR (by decide) rfl hj17 dX2_lays_56 ?_
        refine lv_iconst (v := (2 : Int32)) hx hb dX2_lays_57 (by decide) ?_
        refine g_ki (g_V (As := [_, _]) M hR hS (c_X2_of l K hA (by first | assumption | rfl) b 2 (by omega)) (lw_V q1153 q1155 qs27 q73 q1156) 2 md_X2_of rfl ⟨rfl, rfl⟩ ⟨Nat.le_of_ble_eq_true rfl, Nat.le_of_ble_eq_true rfl⟩ (hR.recv M (tG_0 hA) rfl) rfl hl.1 rfl (lv_room (Nat.le_of_ble_eq_true rfl)) dX2_lays_58 ⟨(by first | exact Nat.le_refl _ | exact Nat.zero_le _ | (dsimp only; omega)), (by first | exact Nat.le_refl _ | exact Nat.zero_le _ | (dsimp only; omega))⟩) hS (fun r58 G58 H locs hp58 hR hS => ?_)
        obtain ⟨rfl, rfl⟩ := hp58
        refine lv_istore_n (lv' := [(2, _), (3, _), (0, _)]) hx hb dX2_lays_61 rfl hl (by decide) rfl (fun ls hl => ?_)
        rw [← hk] at hl
        refine g_inc (lv' := [(3, _), (2, _), (0, _)]) M dX2_lays_62 hl (k := 1) rfl (by decide) rfl (fun ls hl => ?_)
        refine lv_goto (tgt := 4) hx hb dX2_lays_65 (by decide) ?_
        exact ih4 (17 - (j + 1)) _ _ _ _ _ _ (by omega) ⟨j + 1, _, lv_sub hl [0, 1, 2] rfl, by omega, rfl, (fLy_at hj17 he).2 hk5, fun i hi => (congrFun hw20 i).trans (wy_s (q := fun i => oI (fRul F (fIt F N w i) N)) hg rfl i hi), (tQ.trans (tQ.trans tQ.rf hs (by decide)) hq20 (by decide)), rfl, rfl, rfl⟩ hR hS
      · have hz : fLy F N 17 w = some j := (fLy_at hj17 he).1 (hk.trans c45)
        refine lv_iload_n hx hb dX2_lays_48 rfl (lv_at hl 0 rfl) ?_
        exact g_iret M hr hlk hR hS (by omega) (by omega) dX2_lays_49 (⟨by rw [hz]; rfl, _, rfl, (tQ.trans (tQ.trans tQ.rf hs (by decide)) hq20 (by decide)), fun L hL i hi => by rw [hz] at hL; cases hL; exact (congrFun hw20 i).trans (wy_s (q := fun i => oI (fRul F (fIt F N w i) N)) hg rfl i (Nat.lt_succ_of_le hi))⟩)

theorem md_X2_valueBy : gMd yX2_valueBy 1 := by
  unfold gMd
  decide +kernel
set_option maxHeartbeats 4000000 in
set_option maxRecDepth 100000 in
theorem c_X2_valueBy (l : Launch) (K : gK) {G0 : gG} {A : Nat → Nat} {V : tV} {F : Nat → Int32} (hA : tInj A) (hF : V.2.1 1 = F) (w : Int32) {P N : Nat} (ok : fOk F P N) : Met l yX2_valueBy (ws_ yX2_valueBy cX2_valueBy 5 (Option.some Jvm.ClassFile.FieldType.float)) (gRm 5 0 0 111) (gPre K [.ref (A 0), .int w] (tG K G0 A V)) (gQf K (fun r G1 => ∃ V1, G1 = tG K G0 A V1 ∧ tQ [9, 10] V V1 ∧ V1.1 10 = bI (fVl F N 17 w).isSome ∧ (∀ v, fVl F N 17 w = some v → r = v) ∧ fVb r)) 0 0 (gA K) := by
  refine g_met (by decide) (Nat.le_of_ble_eq_true rfl) ?_
  intro p e s m below meth c M hr hlk hnm hR ls hl
  have M : gM K p s m _ c cX2_valueBy 5 RX2 := M
  have hx := M.hx
  have hb := M.hb
  have hS : va_S (gA K) s.heap s.heap [] := va_S.rf
  have hl : lv_has ls 5 [(0, .ref (A 0)), (1, .int w)] := hl
  have hF0 := hF
  have hN := ok.hN
  have hN2 := ok.hN2
  refine lv_aload_n hx hb dX2_valueBy_0 rfl (lv_at hl 0 rfl) ?_
  refine lv_iload_n hx hb dX2_valueBy_1 rfl (lv_at hl 1 rfl) ?_
  refine g_ki (g_V (As := [_]) M hR hS (c_X2_lays l K hA (by first | assumption | rfl) _ (by assumption)) (lw_V q1270 q1272 qs44 q73 q1273) 1 md_X2_lays rfl ⟨rfl, rfl⟩ ⟨Nat.le_of_ble_eq_true rfl, Nat.le_of_ble_eq_true rfl⟩ (hR.recv M (tG_0 hA) rfl) rfl hl.1 rfl (lv_room (Nat.le_of_ble_eq_true rfl)) dX2_valueBy_2 ⟨(by first | exact Nat.le_refl _ | exact Nat.zero_le _ | (dsimp only; omega)), (by first | exact Nat.le_refl _ | exact Nat.zero_le _ | (dsimp only; omega))⟩) hS (fun r2 G2 H locs hp2 hR hS => ?_)
  obtain ⟨rfl, V2, rfl, hs2, hg2⟩ := hp2
  have hF := hs2.row hF (by decide)
  refine lv_istore_n (lv' := [(2, _), (0, _), (1, _)]) hx hb dX2_valueBy_5 rfl hl (by decide) rfl (fun ls hl => ?_)
  refine lv_aload_n hx hb dX2_valueBy_6 rfl (lv_at hl 1 rfl) ?_
  refine lv_iload_n hx hb dX2_valueBy_7 rfl (lv_at hl 0 rfl) ?_
  refine lv_bipush (v := ((-5) : Int32)) hx hb dX2_valueBy_8 (by decide) ?_
  refine lv_icmp_eq (tgt := 28) hx hb dX2_valueBy_10 (by decide) (fun c10 => ?_) (fun c10 => ?_)
  · have hz : fVl F N 17 w = none := fVl_ly (oI_n c10 (fun b h => by have := (fLy_lt h).1; omega))
    refine lv_iconst (v := (0 : Int32)) hx hb dX2_valueBy_28 (by decide) ?_
    refine t_putQ M hA hR hS 10 (by decide) q1049 ⟨rfl, rfl⟩ (by first | exact bI_nar _ | decide) (by first | exact bI_fit _ | decide) dX2_valueBy_29 (fun V29 H locs hq29 hw29 hz29 hR hS => ?_)
    have hF := hq29.row hF (by decide)
    refine lv_aload_n hx hb dX2_valueBy_32 rfl (lv_at hl 1 rfl) ?_
    refine t_getE M hA hR 10 (by decide) (hw29) q1049 rfl dX2_valueBy_33 ?_
    refine lv_if_ne (tgt := 41) hx hb dX2_valueBy_36 (by decide) (fun c36 => absurd c36 (not_not_intro rfl)) (fun c36 => ?_)
    refine lv_fconst0 hx hb dX2_valueBy_39 ?_
    exact g_fret M hr hlk hR hS (by omega) (by omega) dX2_valueBy_40 (⟨_, rfl, (tQ.trans (tQ.trans tQ.rf hs2 (by decide)) hq29 (by decide)), hw29.trans (by rw [hz]; rfl), (fun v hv => by rw [hz] at hv; cases hv), fB_0⟩)
  · obtain ⟨L, hL⟩ := oI_s c10
    rw [hL] at hl
    have hL17 := (fLy_lt hL).1
    refine lv_aload_n hx hb dX2_valueBy_13 rfl (lv_at hl 1 rfl) ?_
    refine t_get M hA hR 9 (by decide) q1048 rfl rfl dX2_valueBy_14 ?_
    refine lv_iload_n hx hb dX2_valueBy_17 rfl (lv_at hl 0 rfl) ?_
    refine t_aldE M hA (hg2 L hL L (Nat.le_refl _)) hR (by decide) rfl (by show L < 17; omega) dX2_valueBy_18 ?_
    refine lv_bipush (v := ((-5) : Int32)) hx hb dX2_valueBy_19 (by decide) ?_
    refine lv_icmp_eq (tgt := 28) hx hb dX2_valueBy_21 (by decide) (fun c21 => ?_) (fun c21 => ?_)
    · have hz : fVl F N 17 w = none := fWv_up hL L 0 (by omega) (by rw [Nat.zero_add, fWv_e hL, oI_n c21 (fun b h => by have := fRul_lt h; omega)]; rfl)
      refine lv_iconst (v := (0 : Int32)) hx hb dX2_valueBy_28 (by decide) ?_
      refine t_putQ M hA hR hS 10 (by decide) q1049 ⟨rfl, rfl⟩ (by first | exact bI_nar _ | decide) (by first | exact bI_fit _ | decide) dX2_valueBy_29 (fun V29 H locs hq29 hw29 hz29 hR hS => ?_)
      have hF := hq29.row hF (by decide)
      refine lv_aload_n hx hb dX2_valueBy_32 rfl (lv_at hl 1 rfl) ?_
      refine t_getE M hA hR 10 (by decide) (hw29) q1049 rfl dX2_valueBy_33 ?_
      refine lv_if_ne (tgt := 41) hx hb dX2_valueBy_36 (by decide) (fun c36 => absurd c36 (not_not_intro rfl)) (fun c36 => ?_)
      refine lv_fconst0 hx hb dX2_valueBy_39 ?_
      exact g_fret M hr hlk hR hS (by omega) (by omega) dX2_valueBy_40 (⟨_, rfl, (tQ.trans (tQ.trans tQ.rf hs2 (by decide)) hq29 (by decide)), hw29.trans (by rw [hz]; rfl), (fun v hv => by rw [hz] at hv; cases hv), fB_0⟩)
    · obtain ⟨b, hb1⟩ := oI_s c21
      have hb2 := fRul_lt hb1
      refine lv_iconst (v := (1 : Int32)) hx hb dX2_valueBy_24 (by decide) ?_
      refine lv_goto (tgt := 29) hx hb dX2_valueBy_25 (by decide) ?_
      refine t_putQ M hA hR hS 10 (by decide) q1049 ⟨rfl, rfl⟩ (by first | exact bI_nar _ | decide) (by first | exact bI_fit _ | decide) dX2_valueBy_29 (fun V29 H locs hq29 hw29 hz29 hR hS => ?_)
      have hF := hq29.row hF (by decide)
      refine lv_aload_n hx hb dX2_valueBy_32 rfl (lv_at hl 1 rfl) ?_
      refine t_getE M hA hR 10 (by decide) (hw29) q1049 rfl dX2_valueBy_33 ?_
      refine lv_if_ne (tgt := 41) hx hb dX2_valueBy_36 (by decide) (fun c36 => ?_) (fun c36 => absurd c36 (by decide))
      refine lv_aload_n hx hb dX2_valueBy_41 rfl (lv_at hl 1 rfl) ?_
      refine lv_aload_n hx hb dX2_valueBy_42 rfl (lv_at hl 1 rfl) ?_
      refine t_get M hA hR 9 (by decide) q1048 rfl rfl dX2_valueBy_43 ?_
      refine lv_iload_n hx hb dX2_valueBy_46 rfl (lv_at hl 0 rfl) ?_
      refine t_aldE M hA ((congrFun (hq29.arr (by decide)) L).trans ((hg2 L hL L (Nat.le_refl _)).trans (congrArg oI hb1))) hR (by decide) rfl (by show L < 17; omega) dX2_valueBy_47 ?_
      refine lv_iconst (v := (4 : Int32)) hx hb dX2_valueBy_48 (by decide) ?_
      refine g_kf (g_V (As := [_, _]) M hR hS (c_X2_realOf l K hA (by first | assumption | rfl) b 4 (by omega) (ok.re4 hb2)) (lw_V q1185 q1187 qs32 q73 q1188) 2 md_X2_realOf rfl ⟨rfl, rfl⟩ ⟨Nat.le_of_ble_eq_true rfl, Nat.le_of_ble_eq_true rfl⟩ (hR.recv M (tG_0 hA) rfl) rfl hl.1 rfl (lv_room (Nat.le_of_ble_eq_true rfl)) dX2_valueBy_49 ⟨(by first | exact Nat.le_refl _ | exact Nat.zero_le _ | (dsimp only; omega)), (by first | exact Nat.le_refl _ | exact Nat.zero_le _ | (dsimp only; omega))⟩) hS (fun r49 G49 H locs hp49 hR hS => ?_)
      obtain ⟨rfl, rfl⟩ := hp49
      refine lv_fstore_n (lv' := [(3, _), (2, _), (0, _), (1, _)]) hx hb dX2_valueBy_52 rfl hl (by decide) rfl (fun ls hl => ?_)
      refine lv_iload_n hx hb dX2_valueBy_53 rfl (lv_at hl 1 rfl) ?_
      refine lv_iconst (v := (1 : Int32)) hx hb dX2_valueBy_54 (by decide) ?_
      refine lv_isub hx hb dX2_valueBy_55 ?_
      refine lv_istore (lv' := [(4, _), (3, _), (2, _), (0, _), (1, _)]) hx hb dX2_valueBy_56 hl (by decide) rfl (fun ls hl => ?_)
      refine g_loop (pc := 58) (fun (k : Nat) (ls : Array Slot) (G : gG) (cells slots : Nat) => ∃ j v V1, lv_has ls 5 [(4, .int (nI j - 1)), (3, .float v), (0, .ref (A 0))] ∧ j ≤ L ∧ k = j ∧ tQ [9, 10] V V1 ∧ V1.1 10 = bI (fWv F N w j).isSome ∧ (∀ x, fWv F N w j = some x → v = x) ∧ fVb v ∧ (∀ i, i ≤ L → V1.2.1 9 i = oI (fRul F (fIt F N w i) N)) ∧ G = tG K G0 A V1 ∧ cells = 0 ∧ slots = 0) ?_ (L) ⟨L, _, _, lv_sub hl [0, 1, 3] rfl, Nat.le_refl _, rfl, (tQ.trans (tQ.trans tQ.rf hs2 (by decide)) hq29 (by decide)), hw29.trans (by rw [fWv_e hL, hb1]; rfl), fun x hx => by rw [fWv_e hL, hb1] at hx; cases hx; rfl, num_41 (ok.bN hb2), fun i hi => (congrFun (hq29.arr (by decide)) i).trans (hg2 L hL i hi), rfl, rfl, rfl⟩ hR hS
      intro k ls G H locs cells slots hI hR hS ih58
      obtain ⟨j, v, V1, hl, hj, rfl, hs, hh, hv, hbv, hg, rfl, rfl, rfl⟩ := hI
      have hF := hs.row hF0 (by decide)
      refine lv_iload hx hb dX2_valueBy_58 (lv_at hl 0 rfl) ?_
      refine lv_if_lt (tgt := 89) hx hb dX2_valueBy_60 (by decide) (fun c60 => ?_) (fun c60 => ?_)
      · refine lv_fload_n hx hb dX2_valueBy_89 rfl (lv_at hl 1 rfl) ?_
        exact g_fret M hr hlk hR hS (by omega) (by omega) dX2_valueBy_90 (⟨_, rfl, (tQ.trans tQ.rf hs (by decide)), by rw [hh]; have h0 := dn_end c60 (by omega); subst h0; rfl, (fun x hx => by have h0 := dn_end c60 (by omega); subst h0; exact hv x hx), hbv⟩)
      · obtain ⟨i, rfl⟩ := dn_not c60
        rw [nI_pred] at hl
        refine lv_aload_n hx hb dX2_valueBy_63 rfl (lv_at hl 2 rfl) ?_
        refine t_getE M hA hR 10 (by decide) (hh) q1049 rfl dX2_valueBy_64 ?_
        refine lv_if_eq (tgt := 89) hx hb dX2_valueBy_67 (by decide) (fun c67 => ?_) (fun c67 => ?_)
        · refine lv_fload_n hx hb dX2_valueBy_89 rfl (lv_at hl 1 rfl) ?_
          exact g_fret M hr hlk hR hS (by omega) (by omega) dX2_valueBy_90 (⟨_, rfl, (tQ.trans tQ.rf hs (by decide)), by rw [hh, isN c67, show fVl F N 17 w = none from fWv_up hL (i + 1) 0 (by omega) (by rw [Nat.zero_add]; exact isN c67)], (fun x hx => by rw [show fVl F N 17 w = none from fWv_up hL (i + 1) 0 (by omega) (by rw [Nat.zero_add]; exact isN c67)] at hx; cases hx), hbv⟩)
        · obtain ⟨x, hxv⟩ := isS c67
          have hvx := hv x hxv
          subst hvx
          have hx9 := fVl_b ok hxv
          obtain ⟨b9, hr, hrN⟩ := fWv_r hL (k := i) (by omega)
          have hwv : fWv F N w i = fBy F b9 v := by rw [fWv_s hL (by omega) hr, hxv]; rfl
          refine lv_aload_n hx hb dX2_valueBy_70 rfl (lv_at hl 2 rfl) ?_
          refine lv_aload_n hx hb dX2_valueBy_71 rfl (lv_at hl 2 rfl) ?_
          refine t_get M hA hR 9 (by decide) q1048 rfl rfl dX2_valueBy_72 ?_
          refine lv_iload hx hb dX2_valueBy_75 (lv_at hl 0 rfl) ?_
          refine t_aldE M hA ((hg i (by omega)).trans (congrArg oI hr)) hR (by decide) rfl (by show i < 17; omega) dX2_valueBy_77 ?_
          refine lv_fload_n hx hb dX2_valueBy_78 rfl (lv_at hl 1 rfl) ?_
          refine g_kf (g_V (As := [_, _]) M hR hS (c_X2_by l K hA (by first | assumption | rfl) b9 v ok hrN hx9) (lw_V q1282 q1284 qs47 q73 q1285) 2 md_X2_by rfl ⟨rfl, rfl⟩ ⟨Nat.le_of_ble_eq_true rfl, Nat.le_of_ble_eq_true rfl⟩ (hR.recv M (tG_0 hA) rfl) rfl hl.1 rfl (lv_room (Nat.le_of_ble_eq_true rfl)) dX2_valueBy_79 ⟨(by first | exact Nat.le_refl _ | exact Nat.zero_le _ | (dsimp only; omega)), (by first | exact Nat.le_refl _ | exact Nat.zero_le _ | (dsimp only; omega))⟩) hS (fun r79 G79 H locs hp79 hR hS => ?_)
          obtain ⟨rfl, V79, rfl, hs79, hh79⟩ := hp79
          have hF := hs79.row hF (by decide)
          refine lv_fstore_n (lv' := [(3, _), (4, _), (0, _)]) hx hb dX2_valueBy_82 rfl hl (by decide) rfl (fun ls hl => ?_)
          refine lv_iinc (v := _) (lv' := [(4, _), (3, _), (0, _)]) hx hb dX2_valueBy_83 hl (k := 1) rfl (dn_dec _) (by decide) rfl (fun ls hl => ?_)
          refine lv_goto (tgt := 58) hx hb dX2_valueBy_86 (by decide) ?_
          exact ih58 (i) _ _ _ _ _ _ (by omega) ⟨i, _, _, lv_sub hl [0, 1, 2] rfl, by omega, rfl, (tQ.trans (tQ.trans tQ.rf hs (by decide)) hs79 (by decide)), hh79.trans (by rw [hwv]), fun y hy => (fBy_v (hwv.symm.trans hy)).symm, (by_ok ok hrN hx9).2.2, fun z hz => (congrFun (hs79.arr (by decide)) z).trans (hg z hz), rfl, rfl, rfl⟩ hR hS

theorem md_X2_valueOfOrder : gMd yX2_valueOfOrder 1 := by
  unfold gMd
  decide +kernel
set_option maxHeartbeats 4000000 in
set_option maxRecDepth 100000 in
theorem c_X2_valueOfOrder (l : Launch) (K : gK) {G0 : gG} {A : Nat → Nat} {V : tV} {F : Nat → Int32} (hA : tInj A) (hF : V.2.1 1 = F) (o : Nat) {P N : Nat} (ok : fOk F P N) (ho : o < N) : Met l yX2_valueOfOrder (ws_ yX2_valueOfOrder cX2_valueOfOrder 3 (Option.some Jvm.ClassFile.FieldType.float)) (gRm 6 0 0 135) (gPre K [.ref (A 0), .int (nI o)] (tG K G0 A V)) (gQf K (fun r G1 => ∃ V1, G1 = tG K G0 A V1 ∧ tQ [9, 10] V V1 ∧ V1.1 10 = bI (fVo F N 17 o).isSome ∧ (∀ v, fVo F N 17 o = some v → r = v) ∧ fVb r)) 0 0 (gA K) := by
  refine g_met (by decide) (Nat.le_of_ble_eq_true rfl) ?_
  intro p e s m below meth c M hr hlk hnm hR ls hl
  have M : gM K p s m _ c cX2_valueOfOrder 3 RX2 := M
  have hx := M.hx
  have hb := M.hb
  have hS : va_S (gA K) s.heap s.heap [] := va_S.rf
  have hl : lv_has ls 3 [(0, .ref (A 0)), (1, .int (nI o))] := hl
  have hF0 := hF
  have hN := ok.hN
  have hN2 := ok.hN2
  refine lv_aload_n hx hb dX2_valueOfOrder_0 rfl (lv_at hl 0 rfl) ?_
  refine lv_iload_n hx hb dX2_valueOfOrder_1 rfl (lv_at hl 1 rfl) ?_
  refine lv_iconst (v := (2 : Int32)) hx hb dX2_valueOfOrder_2 (by decide) ?_
  refine g_ki (g_V (As := [_, _]) M hR hS (c_X2_of l K hA (by first | assumption | rfl) o 2 (by omega)) (lw_V q1153 q1155 qs27 q73 q1156) 2 md_X2_of rfl ⟨rfl, rfl⟩ ⟨Nat.le_of_ble_eq_true rfl, Nat.le_of_ble_eq_true rfl⟩ (hR.recv M (tG_0 hA) rfl) rfl hl.1 rfl (lv_room (Nat.le_of_ble_eq_true rfl)) dX2_valueOfOrder_3 ⟨(by first | exact Nat.le_refl _ | exact Nat.zero_le _ | (dsimp only; omega)), (by first | exact Nat.le_refl _ | exact Nat.zero_le _ | (dsimp only; omega))⟩) hS (fun r3 G3 H locs hp3 hR hS => ?_)
  obtain ⟨rfl, rfl⟩ := hp3
  refine lv_bipush (v := ((-5) : Int32)) hx hb dX2_valueOfOrder_6 (by decide) ?_
  refine lv_icmp_ne (tgt := 23) hx hb dX2_valueOfOrder_8 (by decide) (fun c8 => ?_) (fun c8 => ?_)
  · have hz : fVo F N 17 o = (fVl F N 17 (fo F o 2)).bind (fBy F o) := if_neg c8
    refine lv_aload_n hx hb dX2_valueOfOrder_23 rfl (lv_at hl 0 rfl) ?_
    refine lv_aload_n hx hb dX2_valueOfOrder_24 rfl (lv_at hl 0 rfl) ?_
    refine lv_iload_n hx hb dX2_valueOfOrder_25 rfl (lv_at hl 1 rfl) ?_
    refine lv_iconst (v := (2 : Int32)) hx hb dX2_valueOfOrder_26 (by decide) ?_
    refine g_ki (g_V (As := [_, _]) M hR hS (c_X2_of l K hA (by first | assumption | rfl) o 2 (by omega)) (lw_V q1153 q1155 qs27 q73 q1156) 2 md_X2_of rfl ⟨rfl, rfl⟩ ⟨Nat.le_of_ble_eq_true rfl, Nat.le_of_ble_eq_true rfl⟩ (hR.recv M (tG_0 hA) rfl) rfl hl.1 rfl (lv_room (Nat.le_of_ble_eq_true rfl)) dX2_valueOfOrder_27 ⟨(by first | exact Nat.le_refl _ | exact Nat.zero_le _ | (dsimp only; omega)), (by first | exact Nat.le_refl _ | exact Nat.zero_le _ | (dsimp only; omega))⟩) hS (fun r27 G27 H locs hp27 hR hS => ?_)
    obtain ⟨rfl, rfl⟩ := hp27
    refine g_kf (g_V (As := [_]) M hR hS (c_X2_valueBy l K hA (by first | assumption | rfl) _ (by assumption)) (lw_V q1266 q1268 qs43 q73 q1269) 1 md_X2_valueBy rfl ⟨rfl, rfl⟩ ⟨Nat.le_of_ble_eq_true rfl, Nat.le_of_ble_eq_true rfl⟩ (hR.recv M (tG_0 hA) rfl) rfl hl.1 rfl (lv_room (Nat.le_of_ble_eq_true rfl)) dX2_valueOfOrder_30 ⟨(by first | exact Nat.le_refl _ | exact Nat.zero_le _ | (dsimp only; omega)), (by first | exact Nat.le_refl _ | exact Nat.zero_le _ | (dsimp only; omega))⟩) hS (fun r30 G30 H locs hp30 hR hS => ?_)
    obtain ⟨V30, rfl, hs30, hh30, hv30, hb30⟩ := hp30
    have hF := hs30.row hF (by decide)
    refine lv_fstore_n (lv' := [(2, _), (0, _), (1, _)]) hx hb dX2_valueOfOrder_33 rfl hl (by decide) rfl (fun ls hl => ?_)
    refine lv_aload_n hx hb dX2_valueOfOrder_34 rfl (lv_at hl 1 rfl) ?_
    refine t_getE M hA hR 10 (by decide) (hh30) q1049 rfl dX2_valueOfOrder_35 ?_
    refine lv_if_eq (tgt := 50) hx hb dX2_valueOfOrder_38 (by decide) (fun c38 => ?_) (fun c38 => ?_)
    · refine lv_fconst0 hx hb dX2_valueOfOrder_50 ?_
      exact g_fret M hr hlk hR hS (by omega) (by omega) dX2_valueOfOrder_51 (⟨_, rfl, (tQ.trans tQ.rf hs30 (by decide)), by rw [hh30, isN c38, hz, isN c38]; rfl, (fun v hv => by rw [hz, isN c38] at hv; cases hv), fB_0⟩)
    · obtain ⟨x, hxv⟩ := isS c38
      have hvx := hv30 x hxv
      subst hvx
      have hx9 := fVl_b ok hxv
      have hz2 : fVo F N 17 o = fBy F o r30 := by rw [hz, hxv]; rfl
      refine lv_aload_n hx hb dX2_valueOfOrder_41 rfl (lv_at hl 1 rfl) ?_
      refine lv_iload_n hx hb dX2_valueOfOrder_42 rfl (lv_at hl 2 rfl) ?_
      refine lv_fload_n hx hb dX2_valueOfOrder_43 rfl (lv_at hl 0 rfl) ?_
      refine g_kf (g_V (As := [_, _]) M hR hS (c_X2_by l K hA (by first | assumption | rfl) o r30 ok ho hx9) (lw_V q1282 q1284 qs47 q73 q1285) 2 md_X2_by rfl ⟨rfl, rfl⟩ ⟨Nat.le_of_ble_eq_true rfl, Nat.le_of_ble_eq_true rfl⟩ (hR.recv M (tG_0 hA) rfl) rfl hl.1 rfl (lv_room (Nat.le_of_ble_eq_true rfl)) dX2_valueOfOrder_44 ⟨(by first | exact Nat.le_refl _ | exact Nat.zero_le _ | (dsimp only; omega)), (by first | exact Nat.le_refl _ | exact Nat.zero_le _ | (dsimp only; omega))⟩) hS (fun r44 G44 H locs hp44 hR hS => ?_)
      obtain ⟨rfl, V44, rfl, hs44, hh44⟩ := hp44
      have hF := hs44.row hF (by decide)
      refine lv_goto (tgt := 51) hx hb dX2_valueOfOrder_47 (by decide) ?_
      exact g_fret M hr hlk hR hS (by omega) (by omega) dX2_valueOfOrder_51 (⟨_, rfl, (tQ.trans (tQ.trans tQ.rf hs30 (by decide)) hs44 (by decide)), hh44.trans (by rw [hz2]), (fun v hv => (fBy_v (hz2.symm.trans hv)).symm), (by_ok ok ho hx9).2.2⟩)
  · have hz : fVo F N 17 o = some (fNm F o) := if_pos c8
    refine lv_aload_n hx hb dX2_valueOfOrder_11 rfl (lv_at hl 0 rfl) ?_
    refine lv_iconst (v := (1 : Int32)) hx hb dX2_valueOfOrder_12 (by decide) ?_
    refine t_putQ M hA hR hS 10 (by decide) q1049 ⟨rfl, rfl⟩ (by first | exact bI_nar _ | decide) (by first | exact bI_fit _ | decide) dX2_valueOfOrder_13 (fun V13 H locs hq13 hw13 hz13 hR hS => ?_)
    have hF := hq13.row hF (by decide)
    refine lv_aload_n hx hb dX2_valueOfOrder_16 rfl (lv_at hl 0 rfl) ?_
    refine lv_iload_n hx hb dX2_valueOfOrder_17 rfl (lv_at hl 1 rfl) ?_
    refine lv_iconst (v := (4 : Int32)) hx hb dX2_valueOfOrder_18 (by decide) ?_
    refine g_kf (g_V (As := [_, _]) M hR hS (c_X2_realOf l K hA (by first | assumption | rfl) o 4 (by omega) (ok.re4 ho)) (lw_V q1185 q1187 qs32 q73 q1188) 2 md_X2_realOf rfl ⟨rfl, rfl⟩ ⟨Nat.le_of_ble_eq_true rfl, Nat.le_of_ble_eq_true rfl⟩ (hR.recv M (tG_0 hA) rfl) rfl hl.1 rfl (lv_room (Nat.le_of_ble_eq_true rfl)) dX2_valueOfOrder_19 ⟨(by first | exact Nat.le_refl _ | exact Nat.zero_le _ | (dsimp only; omega)), (by first | exact Nat.le_refl _ | exact Nat.zero_le _ | (dsimp only; omega))⟩) hS (fun r19 G19 H locs hp19 hR hS => ?_)
    obtain ⟨rfl, rfl⟩ := hp19
    exact g_fret M hr hlk hR hS (by omega) (by omega) dX2_valueOfOrder_22 (⟨_, rfl, (tQ.trans tQ.rf hq13 (by decide)), hw13.trans (by rw [hz]; rfl), (fun v hv => by rw [hz] at hv; cases hv; rfl), num_41 (ok.bN ho)⟩)

theorem md_X2_differ : gMd yX2_differ 4 := by
  unfold gMd
  decide +kernel
set_option maxHeartbeats 4000000 in
set_option maxRecDepth 100000 in
theorem c_X2_differ (l : Launch) (K : gK) {G0 : gG} {A : Nat → Nat} {V : tV} {F : Nat → Int32} (hA : tInj A) (hF : V.2.1 1 = F) (x y : Option UInt32) (a b : UInt32) (hx2 : ∀ v, x = some v → a = v) (hy2 : ∀ v, y = some v → b = v) (ha : fVb a) (hb2 : fVb b) {P N : Nat} (ok : fOk F P N) : Met l yX2_differ (ws_ yX2_differ cX2_differ 6 (Option.some Jvm.ClassFile.FieldType.boolean)) (gRm 2 0 0 81) (gPre K [.ref (A 0), .int (bI x.isSome), .float a, .int (bI y.isSome), .float b] (tG K G0 A V)) (gQi K (fun r G1 => r = bI (fDf F x y) ∧ G1 = tG K G0 A V)) 0 0 (gA K) := by
  refine g_met (by decide) (Nat.le_of_ble_eq_true rfl) ?_
  intro p e s m below meth c M hr hlk hnm hR ls hl
  have M : gM K p s m _ c cX2_differ 6 RX2 := M
  have hx := M.hx
  have hb := M.hb
  have hS : va_S (gA K) s.heap s.heap [] := va_S.rf
  have hl : lv_has ls 6 [(0, .ref (A 0)), (1, .int (bI x.isSome)), (2, .float a), (3, .int (bI y.isSome)), (4, .float b)] := hl
  have hF0 := hF
  have hN := ok.hN
  have hN2 := ok.hN2
  refine lv_fload_n hx hb dX2_differ_0 rfl (lv_at hl 2 rfl) ?_
  refine lv_fload hx hb dX2_differ_1 (lv_at hl 4 rfl) ?_
  refine lv_fsub hx hb dX2_differ_3 (df_sub ha hb2).n32 ?_
  refine lv_fstore (lv' := [(5, _), (0, _), (1, _), (2, _), (3, _), (4, _)]) hx hb dX2_differ_4 hl (by decide) rfl (fun ls hl => ?_)
  refine lv_iload_n hx hb dX2_differ_6 rfl (lv_at hl 2 rfl) ?_
  refine lv_iload_n hx hb dX2_differ_7 rfl (lv_at hl 4 rfl) ?_
  refine lv_icmp_ne (tgt := 39) hx hb dX2_differ_8 (by decide) (fun c8 => ?_) (fun c8 => ?_)
  · have hz : fDf F x y = true := df_ne c8
    refine lv_iconst (v := (1 : Int32)) hx hb dX2_differ_39 (by decide) ?_
    refine lv_goto (tgt := 44) hx hb dX2_differ_40 (by decide) ?_
    exact g_zret M hr hlk (by first | rfl | exact bI_nar _) hR hS (by omega) (by omega) dX2_differ_44 (⟨by rw [hz]; rfl, rfl⟩)
  · refine lv_iload_n hx hb dX2_differ_11 rfl (lv_at hl 2 rfl) ?_
    refine lv_if_eq (tgt := 43) hx hb dX2_differ_12 (by decide) (fun c12 => ?_) (fun c12 => ?_)
    · have hz : fDf F x y = false := df_no c12 c8
      refine lv_iconst (v := (0 : Int32)) hx hb dX2_differ_43 (by decide) ?_
      exact g_zret M hr hlk (by first | rfl | exact bI_nar _) hR hS (by omega) (by omega) dX2_differ_44 (⟨by rw [hz]; rfl, rfl⟩)
    · refine lv_fload hx hb dX2_differ_15 (lv_at hl 0 rfl) ?_
      refine lv_fconst0 hx hb dX2_differ_17 ?_
      refine lv_fcmp hx hb dX2_differ_18 ?_
      refine lv_if_ge (tgt := 28) hx hb dX2_differ_19 (by decide) (fun c19 => ?_) (fun c19 => ?_)
      · refine lv_fload hx hb dX2_differ_28 (lv_at hl 0 rfl) ?_
        refine lv_aload_n hx hb dX2_differ_30 rfl (lv_at hl 1 rfl) ?_
        refine lv_iconst (v := (5 : Int32)) hx hb dX2_differ_31 (by decide) ?_
        refine g_kf (g_V (As := [_]) M hR hS (c_X2_amountAt l K hA (by first | assumption | rfl) 5 (by omega) (fFrom_re ok.tol)) (lw_V q1316 q1318 qs53 q73 q1319) 1 md_X2_amountAt rfl ⟨rfl, rfl⟩ ⟨Nat.le_of_ble_eq_true rfl, Nat.le_of_ble_eq_true rfl⟩ (hR.recv M (tG_0 hA) rfl) rfl hl.1 rfl (lv_room (Nat.le_of_ble_eq_true rfl)) dX2_differ_32 ⟨(by first | exact Nat.le_refl _ | exact Nat.zero_le _ | (dsimp only; omega)), (by first | exact Nat.le_refl _ | exact Nat.zero_le _ | (dsimp only; omega))⟩) hS (fun r32 G32 H locs hp32 hR hS => ?_)
        obtain ⟨rfl, rfl⟩ := hp32
        refine lv_fcmp hx hb dX2_differ_35 ?_
        refine lv_if_le (tgt := 43) hx hb dX2_differ_36 (by decide) (fun c36 => ?_) (fun c36 => ?_)
        · have hz : fDf F x y = false := (df_yes c12 c8 hx2 hy2 (if_neg (Int32.not_lt.mpr c19))).trans (decide_eq_false (Int32.not_lt.mpr c36))
          refine lv_iconst (v := (0 : Int32)) hx hb dX2_differ_43 (by decide) ?_
          exact g_zret M hr hlk (by first | rfl | exact bI_nar _) hR hS (by omega) (by omega) dX2_differ_44 (⟨by rw [hz]; rfl, rfl⟩)
        · have hz : fDf F x y = true := (df_yes c12 c8 hx2 hy2 (if_neg (Int32.not_lt.mpr c19))).trans (decide_eq_true (Int32.not_le.mp c36))
          refine lv_iconst (v := (1 : Int32)) hx hb dX2_differ_39 (by decide) ?_
          refine lv_goto (tgt := 44) hx hb dX2_differ_40 (by decide) ?_
          exact g_zret M hr hlk (by first | rfl | exact bI_nar _) hR hS (by omega) (by omega) dX2_differ_44 (⟨by rw [hz]; rfl, rfl⟩)
      · refine lv_fload hx hb dX2_differ_22 (lv_at hl 0 rfl) ?_
        refine lv_fneg hx hb dX2_differ_24 ?_
        refine lv_goto (tgt := 30) hx hb dX2_differ_25 (by decide) ?_
        refine lv_aload_n hx hb dX2_differ_30 rfl (lv_at hl 1 rfl) ?_
        refine lv_iconst (v := (5 : Int32)) hx hb dX2_differ_31 (by decide) ?_
        refine g_kf (g_V (As := [_]) M hR hS (c_X2_amountAt l K hA (by first | assumption | rfl) 5 (by omega) (fFrom_re ok.tol)) (lw_V q1316 q1318 qs53 q73 q1319) 1 md_X2_amountAt rfl ⟨rfl, rfl⟩ ⟨Nat.le_of_ble_eq_true rfl, Nat.le_of_ble_eq_true rfl⟩ (hR.recv M (tG_0 hA) rfl) rfl hl.1 rfl (lv_room (Nat.le_of_ble_eq_true rfl)) dX2_differ_32 ⟨(by first | exact Nat.le_refl _ | exact Nat.zero_le _ | (dsimp only; omega)), (by first | exact Nat.le_refl _ | exact Nat.zero_le _ | (dsimp only; omega))⟩) hS (fun r32 G32 H locs hp32 hR hS => ?_)
        obtain ⟨rfl, rfl⟩ := hp32
        refine lv_fcmp hx hb dX2_differ_35 ?_
        refine lv_if_le (tgt := 43) hx hb dX2_differ_36 (by decide) (fun c36 => ?_) (fun c36 => ?_)
        · have hz : fDf F x y = false := (df_yes c12 c8 hx2 hy2 (if_pos (Int32.not_le.mp c19))).trans (decide_eq_false (Int32.not_lt.mpr c36))
          refine lv_iconst (v := (0 : Int32)) hx hb dX2_differ_43 (by decide) ?_
          exact g_zret M hr hlk (by first | rfl | exact bI_nar _) hR hS (by omega) (by omega) dX2_differ_44 (⟨by rw [hz]; rfl, rfl⟩)
        · have hz : fDf F x y = true := (df_yes c12 c8 hx2 hy2 (if_pos (Int32.not_le.mp c19))).trans (decide_eq_true (Int32.not_le.mp c36))
          refine lv_iconst (v := (1 : Int32)) hx hb dX2_differ_39 (by decide) ?_
          refine lv_goto (tgt := 44) hx hb dX2_differ_40 (by decide) ?_
          exact g_zret M hr hlk (by first | rfl | exact bI_nar _) hR hS (by omega) (by omega) dX2_differ_44 (⟨by rw [hz]; rfl, rfl⟩)

theorem md_X2_conflict : gMd yX2_conflict 1 := by
  unfold gMd
  decide +kernel
set_option maxHeartbeats 4000000 in
set_option maxRecDepth 100000 in
theorem c_X2_conflict (l : Launch) (K : gK) {G0 : gG} {A : Nat → Nat} {V : tV} {F : Nat → Int32} (hA : tInj A) (hF : V.2.1 1 = F) (w : Int32) {P N : Nat} (ok : fOk F P N) : Met l yX2_conflict (ws_ yX2_conflict cX2_conflict 7 (Option.some Jvm.ClassFile.FieldType.int)) (gRm 7 0 0 157) (gPre K [.ref (A 0), .int w] (tG K G0 A V)) (gQi K (fun r G1 => r = oI (fCf F N w) ∧ ∃ V1, G1 = tG K G0 A V1 ∧ tQ [9, 10] V V1)) 0 0 (gA K) := by
  refine g_met (by decide) (Nat.le_of_ble_eq_true rfl) ?_
  intro p e s m below meth c M hr hlk hnm hR ls hl
  have M : gM K p s m _ c cX2_conflict 7 RX2 := M
  have hx := M.hx
  have hb := M.hb
  have hS : va_S (gA K) s.heap s.heap [] := va_S.rf
  have hl : lv_has ls 7 [(0, .ref (A 0)), (1, .int w)] := hl
  have hF0 := hF
  have hN := ok.hN
  have hN2 := ok.hN2
  have hP6 := ok.who6
  refine lv_aload_n hx hb dX2_conflict_0 rfl (lv_at hl 0 rfl) ?_
  refine lv_iload_n hx hb dX2_conflict_1 rfl (lv_at hl 1 rfl) ?_
  refine g_ki (g_V (As := [_]) M hR hS (c_X2_ruling l K hA (by first | assumption | rfl) _ (by assumption)) (lw_V q1274 q1276 qs45 q73 q1277) 1 md_X2_ruling rfl ⟨rfl, rfl⟩ ⟨Nat.le_of_ble_eq_true rfl, Nat.le_of_ble_eq_true rfl⟩ (hR.recv M (tG_0 hA) rfl) rfl hl.1 rfl (lv_room (Nat.le_of_ble_eq_true rfl)) dX2_conflict_2 ⟨(by first | exact Nat.le_refl _ | exact Nat.zero_le _ | (dsimp only; omega)), (by first | exact Nat.le_refl _ | exact Nat.zero_le _ | (dsimp only; omega))⟩) hS (fun r2 G2 H locs hp2 hR hS => ?_)
  obtain ⟨rfl, rfl⟩ := hp2
  refine lv_istore_n (lv' := [(2, _), (0, _), (1, _)]) hx hb dX2_conflict_5 rfl hl (by decide) rfl (fun ls hl => ?_)
  refine lv_iload_n hx hb dX2_conflict_6 rfl (lv_at hl 0 rfl) ?_
  refine lv_bipush (v := ((-5) : Int32)) hx hb dX2_conflict_7 (by decide) ?_
  refine lv_icmp_ne (tgt := 15) hx hb dX2_conflict_9 (by decide) (fun c9 => ?_) (fun c9 => ?_)
  · obtain ⟨b, hb1⟩ := oI_s c9
    have hb2 := fRul_lt hb1
    rw [hb1] at hl
    have hz : fCf F N w = fLast (fAg F N w b) N := by unfold fCf; rw [hb1]
    obtain ⟨p3, hp3, hp4⟩ := hP6 b hb2
    refine lv_aload_n hx hb dX2_conflict_15 rfl (lv_at hl 1 rfl) ?_
    refine lv_iload_n hx hb dX2_conflict_16 rfl (lv_at hl 0 rfl) ?_
    refine g_kf (g_V (As := [_]) M hR hS (c_X2_valueOfOrder l K hA (by first | assumption | rfl) b ok hb2) (lw_V q1292 q1294 qs48 q73 q1295) 1 md_X2_valueOfOrder rfl ⟨rfl, rfl⟩ ⟨Nat.le_of_ble_eq_true rfl, Nat.le_of_ble_eq_true rfl⟩ (hR.recv M (tG_0 hA) rfl) rfl hl.1 rfl (lv_room (Nat.le_of_ble_eq_true rfl)) dX2_conflict_17 ⟨(by first | exact Nat.le_refl _ | exact Nat.zero_le _ | (dsimp only; omega)), (by first | exact Nat.le_refl _ | exact Nat.zero_le _ | (dsimp only; omega))⟩) hS (fun r17 G17 H locs hp17 hR hS => ?_)
    obtain ⟨V17, rfl, hs17, hh17, hv17, hb17⟩ := hp17
    have hF := hs17.row hF (by decide)
    refine lv_fstore_n (lv' := [(3, _), (2, _), (0, _), (1, _)]) hx hb dX2_conflict_20 rfl hl (by decide) rfl (fun ls hl => ?_)
    refine lv_aload_n hx hb dX2_conflict_21 rfl (lv_at hl 2 rfl) ?_
    refine t_getE M hA hR 10 (by decide) (hh17) q1049 rfl dX2_conflict_22 ?_
    refine lv_istore (lv' := [(4, _), (3, _), (2, _), (0, _), (1, _)]) hx hb dX2_conflict_25 hl (by decide) rfl (fun ls hl => ?_)
    refine lv_aload_n hx hb dX2_conflict_27 rfl (lv_at hl 3 rfl) ?_
    refine t_get M hA hR 1 (by decide) q1040 rfl rfl dX2_conflict_28 ?_
    refine lv_iconst (v := (1 : Int32)) hx hb dX2_conflict_31 (by decide) ?_
    refine t_aldF M hA (by first | assumption | rfl) hR (by decide) 1 rfl (by decide) dX2_conflict_32 ?_
    refine g_topi (nI N) hN ?_
    refine lv_iconst (v := (1 : Int32)) hx hb dX2_conflict_33 (by decide) ?_
    refine lv_isub hx hb dX2_conflict_34 ?_
    refine lv_istore (lv' := [(5, _), (4, _), (3, _), (2, _), (0, _), (1, _)]) hx hb dX2_conflict_35 hl (by decide) rfl (fun ls hl => ?_)
    refine g_loop (pc := 37) (fun (k : Nat) (ls : Array Slot) (G : gG) (cells slots : Nat) => ∃ j V1, lv_has ls 7 [(5, .int (nI j - 1)), (4, .int (bI (fVo F N 17 b).isSome)), (3, .float r17), (2, .int (nI b)), (1, .int w), (0, .ref (A 0))] ∧ j ≤ N ∧ k = j ∧ fLast (fAg F N w b) N = fLast (fAg F N w b) j ∧ tQ [9, 10] V V1 ∧ G = tG K G0 A V1 ∧ cells = 0 ∧ slots = 0) ?_ (N) ⟨N, _, lv_sub hl [0, 1, 2, 3, 5, 4] rfl, Nat.le_refl _, rfl, rfl, (tQ.trans tQ.rf hs17 (by decide)), rfl, rfl, rfl⟩ hR hS
    intro k ls G H locs cells slots hI hR hS ih37
    obtain ⟨j, V1, hl, hj, rfl, he, hs, rfl, rfl, rfl⟩ := hI
    have hF := hs.row hF0 (by decide)
    refine lv_iload hx hb dX2_conflict_37 (lv_at hl 0 rfl) ?_
    refine lv_if_lt (tgt := 115) hx hb dX2_conflict_39 (by decide) (fun c39 => ?_) (fun c39 => ?_)
    · refine lv_bipush (v := ((-5) : Int32)) hx hb dX2_conflict_115 (by decide) ?_
      exact g_iret M hr hlk hR hS (by omega) (by omega) dX2_conflict_117 (⟨by rw [hz, he, dn_end c39 (by omega)]; rfl, _, rfl, (tQ.trans tQ.rf hs (by decide))⟩)
    · obtain ⟨i, rfl⟩ := dn_not c39
      rw [nI_pred] at hl
      obtain ⟨p1, hp1, hp2⟩ := hP6 i (by omega)
      refine lv_aload_n hx hb dX2_conflict_42 rfl (lv_at hl 5 rfl) ?_
      refine lv_iload hx hb dX2_conflict_43 (lv_at hl 0 rfl) ?_
      refine lv_iload_n hx hb dX2_conflict_45 rfl (lv_at hl 4 rfl) ?_
      refine g_ki (g_V (As := [_, _]) M hR hS (c_X2_hangsFor l K hA (by first | assumption | rfl) i w (by omega)) (lw_V q1177 q1179 qs31 q73 q1180) 2 md_X2_hangsFor rfl ⟨rfl, rfl⟩ ⟨Nat.le_of_ble_eq_true rfl, Nat.le_of_ble_eq_true rfl⟩ (hR.recv M (tG_0 hA) rfl) rfl hl.1 rfl (lv_room (Nat.le_of_ble_eq_true rfl)) dX2_conflict_46 ⟨(by first | exact Nat.le_refl _ | exact Nat.zero_le _ | (dsimp only; omega)), (by first | exact Nat.le_refl _ | exact Nat.zero_le _ | (dsimp only; omega))⟩) hS (fun r46 G46 H locs hp46 hR hS => ?_)
      obtain ⟨rfl, rfl⟩ := hp46
      refine lv_if_eq (tgt := 109) hx hb dX2_conflict_49 (by decide) (fun c49 => ?_) (fun c49 => ?_)
      · have hq : fAg F N w b i = false := by simp [fAg, bI_0.mp c49]
        refine lv_iinc (v := _) (lv' := [(5, _), (4, _), (3, _), (2, _), (1, _), (0, _)]) hx hb dX2_conflict_109 hl (k := 0) rfl (dn_dec _) (by decide) rfl (fun ls hl => ?_)
        refine lv_goto (tgt := 37) hx hb dX2_conflict_112 (by decide) ?_
        exact ih37 (i) _ _ _ _ _ _ (by omega) ⟨i, _, lv_sub hl [0, 1, 2, 3, 4, 5] rfl, by omega, rfl, he.trans (if_neg (by rw [hq]; decide)), (tQ.trans tQ.rf hs (by decide)), rfl, rfl, rfl⟩ hR hS
      · refine lv_aload_n hx hb dX2_conflict_52 rfl (lv_at hl 5 rfl) ?_
        refine lv_iload hx hb dX2_conflict_53 (lv_at hl 0 rfl) ?_
        refine lv_iconst (v := (0 : Int32)) hx hb dX2_conflict_55 (by decide) ?_
        refine g_ki (g_V (As := [_, _]) M hR hS (c_X2_of l K hA (by first | assumption | rfl) i 0 (by omega)) (lw_V q1153 q1155 qs27 q73 q1156) 2 md_X2_of rfl ⟨rfl, rfl⟩ ⟨Nat.le_of_ble_eq_true rfl, Nat.le_of_ble_eq_true rfl⟩ (hR.recv M (tG_0 hA) rfl) rfl hl.1 rfl (lv_room (Nat.le_of_ble_eq_true rfl)) dX2_conflict_56 ⟨(by first | exact Nat.le_refl _ | exact Nat.zero_le _ | (dsimp only; omega)), (by first | exact Nat.le_refl _ | exact Nat.zero_le _ | (dsimp only; omega))⟩) hS (fun r56 G56 H locs hp56 hR hS => ?_)
        obtain ⟨rfl, rfl⟩ := hp56
        refine lv_aload_n hx hb dX2_conflict_59 rfl (lv_at hl 5 rfl) ?_
        refine lv_iload_n hx hb dX2_conflict_60 rfl (lv_at hl 3 rfl) ?_
        refine lv_iconst (v := (0 : Int32)) hx hb dX2_conflict_61 (by decide) ?_
        refine g_ki (g_V (As := [_, _]) M hR hS (c_X2_of l K hA (by first | assumption | rfl) b 0 (by omega)) (lw_V q1153 q1155 qs27 q73 q1156) 2 md_X2_of rfl ⟨rfl, rfl⟩ ⟨Nat.le_of_ble_eq_true rfl, Nat.le_of_ble_eq_true rfl⟩ (hR.recv M (tG_0 hA) rfl) rfl hl.1 rfl (lv_room (Nat.le_of_ble_eq_true rfl)) dX2_conflict_62 ⟨(by first | exact Nat.le_refl _ | exact Nat.zero_le _ | (dsimp only; omega)), (by first | exact Nat.le_refl _ | exact Nat.zero_le _ | (dsimp only; omega))⟩) hS (fun r62 G62 H locs hp62 hR hS => ?_)
        obtain ⟨rfl, rfl⟩ := hp62
        refine lv_icmp_eq (tgt := 109) hx hb dX2_conflict_65 (by decide) (fun c65 => ?_) (fun c65 => ?_)
        · have hq : fAg F N w b i = false := by simp [fAg, c65]
          refine lv_iinc (v := _) (lv' := [(5, _), (4, _), (3, _), (2, _), (1, _), (0, _)]) hx hb dX2_conflict_109 hl (k := 0) rfl (dn_dec _) (by decide) rfl (fun ls hl => ?_)
          refine lv_goto (tgt := 37) hx hb dX2_conflict_112 (by decide) ?_
          exact ih37 (i) _ _ _ _ _ _ (by omega) ⟨i, _, lv_sub hl [0, 1, 2, 3, 4, 5] rfl, by omega, rfl, he.trans (if_neg (by rw [hq]; decide)), (tQ.trans tQ.rf hs (by decide)), rfl, rfl, rfl⟩ hR hS
        · refine lv_aload_n hx hb dX2_conflict_68 rfl (lv_at hl 5 rfl) ?_
          refine lv_iload hx hb dX2_conflict_69 (lv_at hl 0 rfl) ?_
          refine g_ki (g_V (As := [_]) M hR hS (c_X2_rankOf l K hA (by first | assumption | rfl) i p1 (by omega) hp1 hp2) (lw_V q1278 q1280 qs46 q73 q1281) 1 md_X2_rankOf rfl ⟨rfl, rfl⟩ ⟨Nat.le_of_ble_eq_true rfl, Nat.le_of_ble_eq_true rfl⟩ (hR.recv M (tG_0 hA) rfl) rfl hl.1 rfl (lv_room (Nat.le_of_ble_eq_true rfl)) dX2_conflict_71 ⟨(by first | exact Nat.le_refl _ | exact Nat.zero_le _ | (dsimp only; omega)), (by first | exact Nat.le_refl _ | exact Nat.zero_le _ | (dsimp only; omega))⟩) hS (fun r71 G71 H locs hp71 hR hS => ?_)
          obtain ⟨rfl, rfl⟩ := hp71
          refine lv_aload_n hx hb dX2_conflict_74 rfl (lv_at hl 5 rfl) ?_
          refine lv_iload_n hx hb dX2_conflict_75 rfl (lv_at hl 3 rfl) ?_
          refine g_ki (g_V (As := [_]) M hR hS (c_X2_rankOf l K hA (by first | assumption | rfl) b p3 (by omega) hp3 hp4) (lw_V q1278 q1280 qs46 q73 q1281) 1 md_X2_rankOf rfl ⟨rfl, rfl⟩ ⟨Nat.le_of_ble_eq_true rfl, Nat.le_of_ble_eq_true rfl⟩ (hR.recv M (tG_0 hA) rfl) rfl hl.1 rfl (lv_room (Nat.le_of_ble_eq_true rfl)) dX2_conflict_76 ⟨(by first | exact Nat.le_refl _ | exact Nat.zero_le _ | (dsimp only; omega)), (by first | exact Nat.le_refl _ | exact Nat.zero_le _ | (dsimp only; omega))⟩) hS (fun r76 G76 H locs hp76 hR hS => ?_)
          obtain ⟨rfl, rfl⟩ := hp76
          refine lv_icmp_ne (tgt := 109) hx hb dX2_conflict_79 (by decide) (fun c79 => ?_) (fun c79 => ?_)
          · have hq : fAg F N w b i = false := by simp [fAg, c79]
            refine lv_iinc (v := _) (lv' := [(5, _), (4, _), (3, _), (2, _), (1, _), (0, _)]) hx hb dX2_conflict_109 hl (k := 0) rfl (dn_dec _) (by decide) rfl (fun ls hl => ?_)
            refine lv_goto (tgt := 37) hx hb dX2_conflict_112 (by decide) ?_
            exact ih37 (i) _ _ _ _ _ _ (by omega) ⟨i, _, lv_sub hl [0, 1, 2, 3, 4, 5] rfl, by omega, rfl, he.trans (if_neg (by rw [hq]; decide)), (tQ.trans tQ.rf hs (by decide)), rfl, rfl, rfl⟩ hR hS
          · refine lv_aload_n hx hb dX2_conflict_82 rfl (lv_at hl 5 rfl) ?_
            refine lv_iload hx hb dX2_conflict_83 (lv_at hl 0 rfl) ?_
            refine g_kf (g_V (As := [_]) M hR hS (c_X2_valueOfOrder l K hA (by first | assumption | rfl) i ok (by omega)) (lw_V q1292 q1294 qs48 q73 q1295) 1 md_X2_valueOfOrder rfl ⟨rfl, rfl⟩ ⟨Nat.le_of_ble_eq_true rfl, Nat.le_of_ble_eq_true rfl⟩ (hR.recv M (tG_0 hA) rfl) rfl hl.1 rfl (lv_room (Nat.le_of_ble_eq_true rfl)) dX2_conflict_85 ⟨(by first | exact Nat.le_refl _ | exact Nat.zero_le _ | (dsimp only; omega)), (by first | exact Nat.le_refl _ | exact Nat.zero_le _ | (dsimp only; omega))⟩) hS (fun r85 G85 H locs hp85 hR hS => ?_)
            obtain ⟨V85, rfl, hs85, hh85, hv85, hb85⟩ := hp85
            have hF := hs85.row hF (by decide)
            refine lv_fstore (lv' := [(6, _), (5, _), (4, _), (3, _), (2, _), (1, _), (0, _)]) hx hb dX2_conflict_88 hl (by decide) rfl (fun ls hl => ?_)
            refine lv_aload_n hx hb dX2_conflict_90 rfl (lv_at hl 6 rfl) ?_
            refine lv_iload hx hb dX2_conflict_91 (lv_at hl 2 rfl) ?_
            refine lv_fload_n hx hb dX2_conflict_93 rfl (lv_at hl 3 rfl) ?_
            refine lv_aload_n hx hb dX2_conflict_94 rfl (lv_at hl 6 rfl) ?_
            refine t_getE M hA hR 10 (by decide) (hh85) q1049 rfl dX2_conflict_95 ?_
            refine lv_fload hx hb dX2_conflict_98 (lv_at hl 0 rfl) ?_
            refine g_ki (g_V (As := [_, _, _, _]) M hR hS (c_X2_differ l K hA (by first | assumption | rfl) (fVo F N 17 b) (fVo F N 17 i) _ _ hv17 hv85 hb17 hb85 ok) (lw_V q1312 q1314 qs52 q73 q1315) 4 md_X2_differ rfl ⟨rfl, rfl⟩ ⟨Nat.le_of_ble_eq_true rfl, Nat.le_of_ble_eq_true rfl⟩ (hR.recv M (tG_0 hA) rfl) rfl hl.1 rfl (lv_room (Nat.le_of_ble_eq_true rfl)) dX2_conflict_100 ⟨(by first | exact Nat.le_refl _ | exact Nat.zero_le _ | (dsimp only; omega)), (by first | exact Nat.le_refl _ | exact Nat.zero_le _ | (dsimp only; omega))⟩) hS (fun r100 G100 H locs hp100 hR hS => ?_)
            obtain ⟨rfl, rfl⟩ := hp100
            refine lv_if_eq (tgt := 109) hx hb dX2_conflict_103 (by decide) (fun c103 => ?_) (fun c103 => ?_)
            · have hq : fAg F N w b i = false := by simp [fAg, bI_0.mp c103]
              refine lv_iinc (v := _) (lv' := [(5, _), (6, _), (4, _), (3, _), (2, _), (1, _), (0, _)]) hx hb dX2_conflict_109 hl (k := 1) rfl (dn_dec _) (by decide) rfl (fun ls hl => ?_)
              refine lv_goto (tgt := 37) hx hb dX2_conflict_112 (by decide) ?_
              exact ih37 (i) _ _ _ _ _ _ (by omega) ⟨i, _, lv_sub hl [0, 2, 3, 4, 5, 6] rfl, by omega, rfl, he.trans (if_neg (by rw [hq]; decide)), (tQ.trans (tQ.trans tQ.rf hs (by decide)) hs85 (by decide)), rfl, rfl, rfl⟩ hR hS
            · have hq : fAg F N w b i = true := by simp [fAg, bI_n0.mp c49, c65, c79, bI_n0.mp c103]
              refine lv_iload hx hb dX2_conflict_106 (lv_at hl 1 rfl) ?_
              exact g_iret M hr hlk hR hS (by omega) (by omega) dX2_conflict_108 (⟨by rw [hz, he]; exact (congrArg oI (if_pos hq : fLast (fAg F N w b) (i + 1) = some i)).symm, _, rfl, (tQ.trans (tQ.trans tQ.rf hs (by decide)) hs85 (by decide))⟩)
  · have hz : fCf F N w = none := by unfold fCf; rw [oI_n c9 (fun b h => by have := fRul_lt h; omega)]
    refine lv_bipush (v := ((-5) : Int32)) hx hb dX2_conflict_12 (by decide) ?_
    exact g_iret M hr hlk hR hS (by omega) (by omega) dX2_conflict_14 (⟨by rw [hz]; rfl, _, rfl, tQ.rf⟩)

theorem md_X2_hasValue : gMd yX2_hasValue 1 := by
  unfold gMd
  decide +kernel
set_option maxHeartbeats 4000000 in
set_option maxRecDepth 100000 in
theorem c_X2_hasValue (l : Launch) (K : gK) {G0 : gG} {A : Nat → Nat} {V : tV} {F : Nat → Int32} (hA : tInj A) (hF : V.2.1 1 = F) (w : Int32) {P N : Nat} (ok : fOk F P N) : Met l yX2_hasValue (ws_ yX2_hasValue cX2_hasValue 2 (Option.some Jvm.ClassFile.FieldType.boolean)) (gRm 6 0 0 135) (gPre K [.ref (A 0), .int w] (tG K G0 A V)) (gQi K (fun r G1 => r = bI (fVl F N 17 w).isSome ∧ ∃ V1, G1 = tG K G0 A V1 ∧ tQ [9, 10] V V1)) 0 0 (gA K) := by
  refine g_met (by decide) (Nat.le_of_ble_eq_true rfl) ?_
  intro p e s m below meth c M hr hlk hnm hR ls hl
  have M : gM K p s m _ c cX2_hasValue 2 RX2 := M
  have hx := M.hx
  have hb := M.hb
  have hS : va_S (gA K) s.heap s.heap [] := va_S.rf
  have hl : lv_has ls 2 [(0, .ref (A 0)), (1, .int w)] := hl
  have hF0 := hF
  have hN := ok.hN
  have hN2 := ok.hN2
  refine lv_aload_n hx hb dX2_hasValue_0 rfl (lv_at hl 0 rfl) ?_
  refine lv_iload_n hx hb dX2_hasValue_1 rfl (lv_at hl 1 rfl) ?_
  refine g_kf (g_V (As := [_]) M hR hS (c_X2_valueBy l K hA (by first | assumption | rfl) _ (by assumption)) (lw_V q1266 q1268 qs43 q73 q1269) 1 md_X2_valueBy rfl ⟨rfl, rfl⟩ ⟨Nat.le_of_ble_eq_true rfl, Nat.le_of_ble_eq_true rfl⟩ (hR.recv M (tG_0 hA) rfl) rfl hl.1 rfl (lv_room (Nat.le_of_ble_eq_true rfl)) dX2_hasValue_2 ⟨(by first | exact Nat.le_refl _ | exact Nat.zero_le _ | (dsimp only; omega)), (by first | exact Nat.le_refl _ | exact Nat.zero_le _ | (dsimp only; omega))⟩) hS (fun r2 G2 H locs hp2 hR hS => ?_)
  obtain ⟨V2, rfl, hs2, hh2, hv2, hb2⟩ := hp2
  have hF := hs2.row hF (by decide)
  refine lv_pop hx hb dX2_hasValue_5 rfl ?_
  refine lv_aload_n hx hb dX2_hasValue_6 rfl (lv_at hl 0 rfl) ?_
  refine t_getE M hA hR 10 (by decide) (hh2) q1049 rfl dX2_hasValue_7 ?_
  exact g_zret M hr hlk (by first | rfl | exact bI_nar _) hR hS (by omega) (by omega) dX2_hasValue_10 (⟨rfl, _, rfl, (tQ.trans tQ.rf hs2 (by decide))⟩)

theorem md_X2_words : gMd yX2_words 1 := by
  unfold gMd
  decide +kernel
set_option maxHeartbeats 4000000 in
set_option maxRecDepth 100000 in
theorem c_X2_words (l : Launch) (K : gK) {G0 : gG} {A : Nat → Nat} {V : tV} {F : Nat → Int32} (hA : tInj A) (hF : V.2.1 1 = F) (what : Int32) {P N : Nat} (ok : fOk F P N) : Met l yX2_words (ws_ yX2_words cX2_words 5 (Option.some Jvm.ClassFile.FieldType.int)) (gRm 8 0 0 183) (gPre K [.ref (A 0), .int what] (tG K G0 A V)) (gQi K (fun r G1 => r = nI (fCnt (fun u => fWw F N what (nI u)) 0 16) ∧ ∃ V1, G1 = tG K G0 A V1 ∧ tQ [9, 10] V V1)) 0 0 (gA K) := by
  refine g_met (by decide) (Nat.le_of_ble_eq_true rfl) ?_
  intro p e s m below meth c M hr hlk hnm hR ls hl
  have M : gM K p s m _ c cX2_words 5 RX2 := M
  have hx := M.hx
  have hb := M.hb
  have hS : va_S (gA K) s.heap s.heap [] := va_S.rf
  have hl : lv_has ls 5 [(0, .ref (A 0)), (1, .int what)] := hl
  have hF0 := hF
  have hN := ok.hN
  have hN2 := ok.hN2
  refine lv_iconst (v := (0 : Int32)) hx hb dX2_words_0 (by decide) ?_
  refine lv_istore_n (lv' := [(2, _), (0, _), (1, _)]) hx hb dX2_words_1 rfl hl (by decide) rfl (fun ls hl => ?_)
  refine lv_iconst (v := (0 : Int32)) hx hb dX2_words_2 (by decide) ?_
  refine lv_istore_n (lv' := [(3, _), (2, _), (0, _), (1, _)]) hx hb dX2_words_3 rfl hl (by decide) rfl (fun ls hl => ?_)
  refine g_loop (pc := 4) (fun (k : Nat) (ls : Array Slot) (G : gG) (cells slots : Nat) => ∃ j V1, lv_has ls 5 [(3, .int (nI j)), (2, .int (nI (fCnt (fun u => fWw F N what (nI u)) 0 j))), (1, .int what), (0, .ref (A 0))] ∧ j ≤ 16 ∧ k = 16 - j ∧ tQ [9, 10] V V1 ∧ G = tG K G0 A V1 ∧ cells = 0 ∧ slots = 0) ?_ (16) ⟨0, V, lv_sub hl [0, 1, 3, 2] rfl, by omega, rfl, tQ.rf, rfl, rfl, rfl⟩ hR hS
  intro k ls G H locs cells slots hI hR hS ih4
  obtain ⟨j, V1, hl, hj, rfl, hs, rfl, rfl, rfl⟩ := hI
  have hF := hs.row hF0 (by decide)
  refine lv_iload_n hx hb dX2_words_4 rfl (lv_at hl 0 rfl) ?_
  refine lv_bipush (v := (16 : Int32)) hx hb dX2_words_5 (by decide) ?_
  refine lv_icmp_ge (tgt := 106) hx hb dX2_words_7 (by decide) (fun c7 => ?_) (fun c7 => ?_)
  · refine lv_iload_n hx hb dX2_words_106 rfl (lv_at hl 1 rfl) ?_
    exact g_iret M hr hlk hR hS (by omega) (by omega) dX2_words_107 (⟨by have h16 : j = 16 := eq_of_ge (n := 16) c7 hj (by decide); subst h16; rfl, _, rfl, (tQ.trans tQ.rf hs (by decide))⟩)
  · have hj16 : j < 16 := lt_of_not (n := 16) c7 (by omega)
    refine lv_iload_n hx hb dX2_words_10 rfl (lv_at hl 2 rfl) ?_
    refine lv_iconst (v := (5 : Int32)) hx hb dX2_words_11 (by decide) ?_
    refine lv_icmp_ne (tgt := 23) hx hb dX2_words_12 (by decide) (fun c12 => ?_) (fun c12 => ?_)
    · refine lv_iload_n hx hb dX2_words_23 rfl (lv_at hl 2 rfl) ?_
      refine lv_bipush (v := (6 : Int32)) hx hb dX2_words_24 (by decide) ?_
      refine lv_icmp_ne (tgt := 55) hx hb dX2_words_26 (by decide) (fun c26 => ?_) (fun c26 => ?_)
      · refine lv_iload_n hx hb dX2_words_55 rfl (lv_at hl 2 rfl) ?_
        refine lv_bipush (v := (7 : Int32)) hx hb dX2_words_56 (by decide) ?_
        refine lv_icmp_ne (tgt := 79) hx hb dX2_words_58 (by decide) (fun c58 => ?_) (fun c58 => ?_)
        · refine lv_aload_n hx hb dX2_words_79 rfl (lv_at hl 3 rfl) ?_
          refine lv_iload_n hx hb dX2_words_80 rfl (lv_at hl 0 rfl) ?_
          refine lv_iload_n hx hb dX2_words_81 rfl (lv_at hl 0 rfl) ?_
          refine g_ki (g_V (As := [_, _]) M hR hS (c_X2_comesTo l K hA (by first | assumption | rfl) _ _ (by assumption)) (lw_V q1324 q1326 qs55 q73 q1327) 2 md_X2_comesTo rfl ⟨rfl, rfl⟩ ⟨Nat.le_of_ble_eq_true rfl, Nat.le_of_ble_eq_true rfl⟩ (hR.recv M (tG_0 hA) rfl) rfl hl.1 rfl (lv_room (Nat.le_of_ble_eq_true rfl)) dX2_words_82 ⟨(by first | exact Nat.le_refl _ | exact Nat.zero_le _ | (dsimp only; omega)), (by first | exact Nat.le_refl _ | exact Nat.zero_le _ | (dsimp only; omega))⟩) hS (fun r82 G82 H locs hp82 hR hS => ?_)
          obtain ⟨rfl, rfl⟩ := hp82
          have hq : fWw F N what (nI j) = fCm F N (nI j) 16 (nI j) := by unfold fWw; rw [if_neg c12, if_neg c26, if_neg c58]
          refine g_topi (bI (fWw F N what (nI j))) (by rw [hq]) ?_
          refine lv_istore (lv' := [(4, _), (3, _), (2, _), (1, _), (0, _)]) hx hb dX2_words_85 hl (by decide) rfl (fun ls hl => ?_)
          refine lv_iload_n hx hb dX2_words_87 rfl (lv_at hl 2 rfl) ?_
          refine lv_iload hx hb dX2_words_88 (lv_at hl 0 rfl) ?_
          refine lv_if_eq (tgt := 97) hx hb dX2_words_90 (by decide) (fun c90 => ?_) (fun c90 => ?_)
          · refine lv_iconst (v := (0 : Int32)) hx hb dX2_words_97 (by decide) ?_
            refine lv_iadd hx hb dX2_words_98 ?_
            refine g_topi (nI (fCnt (fun u => fWw F N what (nI u)) 0 (j + 1))) (by have h := @cnt_s (fun u => fWw F N what (nI u)) j; rw [show bI ((fun u => fWw F N what (nI u)) j) = 0 from c90] at h; exact h) ?_
            refine lv_istore_n (lv' := [(2, _), (4, _), (3, _), (1, _), (0, _)]) hx hb dX2_words_99 rfl hl (by decide) rfl (fun ls hl => ?_)
            refine g_inc (lv' := [(3, _), (2, _), (4, _), (1, _), (0, _)]) M dX2_words_100 hl (k := 2) rfl (by decide) rfl (fun ls hl => ?_)
            refine lv_goto (tgt := 4) hx hb dX2_words_103 (by decide) ?_
            exact ih4 (16 - (j + 1)) _ _ _ _ _ _ (by omega) ⟨j + 1, _, lv_sub hl [0, 1, 3, 4] rfl, by omega, rfl, (tQ.trans tQ.rf hs (by decide)), rfl, rfl, rfl⟩ hR hS
          · refine lv_iconst (v := (1 : Int32)) hx hb dX2_words_93 (by decide) ?_
            refine lv_goto (tgt := 98) hx hb dX2_words_94 (by decide) ?_
            refine lv_iadd hx hb dX2_words_98 ?_
            refine g_topi (nI (fCnt (fun u => fWw F N what (nI u)) 0 (j + 1))) (by have h := @cnt_s (fun u => fWw F N what (nI u)) j; rw [show bI ((fun u => fWw F N what (nI u)) j) = 1 from bI_1.mpr (bI_n0.mp c90)] at h; exact h) ?_
            refine lv_istore_n (lv' := [(2, _), (4, _), (3, _), (1, _), (0, _)]) hx hb dX2_words_99 rfl hl (by decide) rfl (fun ls hl => ?_)
            refine g_inc (lv' := [(3, _), (2, _), (4, _), (1, _), (0, _)]) M dX2_words_100 hl (k := 2) rfl (by decide) rfl (fun ls hl => ?_)
            refine lv_goto (tgt := 4) hx hb dX2_words_103 (by decide) ?_
            exact ih4 (16 - (j + 1)) _ _ _ _ _ _ (by omega) ⟨j + 1, _, lv_sub hl [0, 1, 3, 4] rfl, by omega, rfl, (tQ.trans tQ.rf hs (by decide)), rfl, rfl, rfl⟩ hR hS
        · refine lv_aload_n hx hb dX2_words_61 rfl (lv_at hl 3 rfl) ?_
          refine lv_iload_n hx hb dX2_words_62 rfl (lv_at hl 0 rfl) ?_
          refine g_ki (g_V (As := [_]) M hR hS (c_X2_conflict l K hA (by first | assumption | rfl) _ (by assumption)) (lw_V q1308 q1310 qs51 q73 q1311) 1 md_X2_conflict rfl ⟨rfl, rfl⟩ ⟨Nat.le_of_ble_eq_true rfl, Nat.le_of_ble_eq_true rfl⟩ (hR.recv M (tG_0 hA) rfl) rfl hl.1 rfl (lv_room (Nat.le_of_ble_eq_true rfl)) dX2_words_63 ⟨(by first | exact Nat.le_refl _ | exact Nat.zero_le _ | (dsimp only; omega)), (by first | exact Nat.le_refl _ | exact Nat.zero_le _ | (dsimp only; omega))⟩) hS (fun r63 G63 H locs hp63 hR hS => ?_)
          obtain ⟨rfl, V63, rfl, hs63⟩ := hp63
          have hF := hs63.row hF (by decide)
          refine lv_bipush (v := ((-5) : Int32)) hx hb dX2_words_66 (by decide) ?_
          refine lv_icmp_eq (tgt := 75) hx hb dX2_words_68 (by decide) (fun c68 => ?_) (fun c68 => ?_)
          · refine lv_iconst (v := (0 : Int32)) hx hb dX2_words_75 (by decide) ?_
            refine lv_goto (tgt := 85) hx hb dX2_words_76 (by decide) ?_
            have hq : fWw F N what (nI j) = false := by unfold fWw; rw [if_neg c12, if_neg c26, if_pos c58, oI_n c68 (fun b h => by have := fCf_lt h; omega)]; rfl
            refine g_topi (bI (fWw F N what (nI j))) (by rw [hq]; rfl) ?_
            refine lv_istore (lv' := [(4, _), (3, _), (2, _), (1, _), (0, _)]) hx hb dX2_words_85 hl (by decide) rfl (fun ls hl => ?_)
            refine lv_iload_n hx hb dX2_words_87 rfl (lv_at hl 2 rfl) ?_
            refine lv_iload hx hb dX2_words_88 (lv_at hl 0 rfl) ?_
            refine lv_if_eq (tgt := 97) hx hb dX2_words_90 (by decide) (fun c90 => ?_) (fun c90 => ?_)
            · refine lv_iconst (v := (0 : Int32)) hx hb dX2_words_97 (by decide) ?_
              refine lv_iadd hx hb dX2_words_98 ?_
              refine g_topi (nI (fCnt (fun u => fWw F N what (nI u)) 0 (j + 1))) (by have h := @cnt_s (fun u => fWw F N what (nI u)) j; rw [show bI ((fun u => fWw F N what (nI u)) j) = 0 from c90] at h; exact h) ?_
              refine lv_istore_n (lv' := [(2, _), (4, _), (3, _), (1, _), (0, _)]) hx hb dX2_words_99 rfl hl (by decide) rfl (fun ls hl => ?_)
              refine g_inc (lv' := [(3, _), (2, _), (4, _), (1, _), (0, _)]) M dX2_words_100 hl (k := 2) rfl (by decide) rfl (fun ls hl => ?_)
              refine lv_goto (tgt := 4) hx hb dX2_words_103 (by decide) ?_
              exact ih4 (16 - (j + 1)) _ _ _ _ _ _ (by omega) ⟨j + 1, _, lv_sub hl [0, 1, 3, 4] rfl, by omega, rfl, (tQ.trans (tQ.trans tQ.rf hs (by decide)) hs63 (by decide)), rfl, rfl, rfl⟩ hR hS
            · refine lv_iconst (v := (1 : Int32)) hx hb dX2_words_93 (by decide) ?_
              refine lv_goto (tgt := 98) hx hb dX2_words_94 (by decide) ?_
              refine lv_iadd hx hb dX2_words_98 ?_
              refine g_topi (nI (fCnt (fun u => fWw F N what (nI u)) 0 (j + 1))) (by have h := @cnt_s (fun u => fWw F N what (nI u)) j; rw [show bI ((fun u => fWw F N what (nI u)) j) = 1 from bI_1.mpr (bI_n0.mp c90)] at h; exact h) ?_
              refine lv_istore_n (lv' := [(2, _), (4, _), (3, _), (1, _), (0, _)]) hx hb dX2_words_99 rfl hl (by decide) rfl (fun ls hl => ?_)
              refine g_inc (lv' := [(3, _), (2, _), (4, _), (1, _), (0, _)]) M dX2_words_100 hl (k := 2) rfl (by decide) rfl (fun ls hl => ?_)
              refine lv_goto (tgt := 4) hx hb dX2_words_103 (by decide) ?_
              exact ih4 (16 - (j + 1)) _ _ _ _ _ _ (by omega) ⟨j + 1, _, lv_sub hl [0, 1, 3, 4] rfl, by omega, rfl, (tQ.trans (tQ.trans tQ.rf hs (by decide)) hs63 (by decide)), rfl, rfl, rfl⟩ hR hS
          · refine lv_iconst (v := (1 : Int32)) hx hb dX2_words_71 (by decide) ?_
            refine lv_goto (tgt := 85) hx hb dX2_words_72 (by decide) ?_
            have hq : fWw F N what (nI j) = true := by unfold fWw; obtain ⟨b, hb1⟩ := oI_s c68; rw [if_neg c12, if_neg c26, if_pos c58, hb1]; rfl
            refine g_topi (bI (fWw F N what (nI j))) (by rw [hq]; rfl) ?_
            refine lv_istore (lv' := [(4, _), (3, _), (2, _), (1, _), (0, _)]) hx hb dX2_words_85 hl (by decide) rfl (fun ls hl => ?_)
            refine lv_iload_n hx hb dX2_words_87 rfl (lv_at hl 2 rfl) ?_
            refine lv_iload hx hb dX2_words_88 (lv_at hl 0 rfl) ?_
            refine lv_if_eq (tgt := 97) hx hb dX2_words_90 (by decide) (fun c90 => ?_) (fun c90 => ?_)
            · refine lv_iconst (v := (0 : Int32)) hx hb dX2_words_97 (by decide) ?_
              refine lv_iadd hx hb dX2_words_98 ?_
              refine g_topi (nI (fCnt (fun u => fWw F N what (nI u)) 0 (j + 1))) (by have h := @cnt_s (fun u => fWw F N what (nI u)) j; rw [show bI ((fun u => fWw F N what (nI u)) j) = 0 from c90] at h; exact h) ?_
              refine lv_istore_n (lv' := [(2, _), (4, _), (3, _), (1, _), (0, _)]) hx hb dX2_words_99 rfl hl (by decide) rfl (fun ls hl => ?_)
              refine g_inc (lv' := [(3, _), (2, _), (4, _), (1, _), (0, _)]) M dX2_words_100 hl (k := 2) rfl (by decide) rfl (fun ls hl => ?_)
              refine lv_goto (tgt := 4) hx hb dX2_words_103 (by decide) ?_
              exact ih4 (16 - (j + 1)) _ _ _ _ _ _ (by omega) ⟨j + 1, _, lv_sub hl [0, 1, 3, 4] rfl, by omega, rfl, (tQ.trans (tQ.trans tQ.rf hs (by decide)) hs63 (by decide)), rfl, rfl, rfl⟩ hR hS
            · refine lv_iconst (v := (1 : Int32)) hx hb dX2_words_93 (by decide) ?_
              refine lv_goto (tgt := 98) hx hb dX2_words_94 (by decide) ?_
              refine lv_iadd hx hb dX2_words_98 ?_
              refine g_topi (nI (fCnt (fun u => fWw F N what (nI u)) 0 (j + 1))) (by have h := @cnt_s (fun u => fWw F N what (nI u)) j; rw [show bI ((fun u => fWw F N what (nI u)) j) = 1 from bI_1.mpr (bI_n0.mp c90)] at h; exact h) ?_
              refine lv_istore_n (lv' := [(2, _), (4, _), (3, _), (1, _), (0, _)]) hx hb dX2_words_99 rfl hl (by decide) rfl (fun ls hl => ?_)
              refine g_inc (lv' := [(3, _), (2, _), (4, _), (1, _), (0, _)]) M dX2_words_100 hl (k := 2) rfl (by decide) rfl (fun ls hl => ?_)
              refine lv_goto (tgt := 4) hx hb dX2_words_103 (by decide) ?_
              exact ih4 (16 - (j + 1)) _ _ _ _ _ _ (by omega) ⟨j + 1, _, lv_sub hl [0, 1, 3, 4] rfl, by omega, rfl, (tQ.trans (tQ.trans tQ.rf hs (by decide)) hs63 (by decide)), rfl, rfl, rfl⟩ hR hS
      · refine lv_aload_n hx hb dX2_words_29 rfl (lv_at hl 3 rfl) ?_
        refine lv_iload_n hx hb dX2_words_30 rfl (lv_at hl 0 rfl) ?_
        refine g_ki (g_V (As := [_]) M hR hS (c_X2_top l K hA (by first | assumption | rfl) _ (by assumption)) (lw_V q1300 q1302 qs49 q73 q1303) 1 md_X2_top rfl ⟨rfl, rfl⟩ ⟨Nat.le_of_ble_eq_true rfl, Nat.le_of_ble_eq_true rfl⟩ (hR.recv M (tG_0 hA) rfl) rfl hl.1 rfl (lv_room (Nat.le_of_ble_eq_true rfl)) dX2_words_31 ⟨(by first | exact Nat.le_refl _ | exact Nat.zero_le _ | (dsimp only; omega)), (by first | exact Nat.le_refl _ | exact Nat.zero_le _ | (dsimp only; omega))⟩) hS (fun r31 G31 H locs hp31 hR hS => ?_)
        obtain ⟨rfl, rfl⟩ := hp31
        refine lv_bipush (v := ((-5) : Int32)) hx hb dX2_words_34 (by decide) ?_
        refine lv_icmp_eq (tgt := 51) hx hb dX2_words_36 (by decide) (fun c36 => ?_) (fun c36 => ?_)
        · refine lv_iconst (v := (0 : Int32)) hx hb dX2_words_51 (by decide) ?_
          refine lv_goto (tgt := 85) hx hb dX2_words_52 (by decide) ?_
          have hq : fWw F N what (nI j) = false := by unfold fWw; rw [if_neg c12, if_pos c26, oI_n c36 (fun b h => by have := fTop_lt h; omega)]; rfl
          refine g_topi (bI (fWw F N what (nI j))) (by rw [hq]; rfl) ?_
          refine lv_istore (lv' := [(4, _), (3, _), (2, _), (1, _), (0, _)]) hx hb dX2_words_85 hl (by decide) rfl (fun ls hl => ?_)
          refine lv_iload_n hx hb dX2_words_87 rfl (lv_at hl 2 rfl) ?_
          refine lv_iload hx hb dX2_words_88 (lv_at hl 0 rfl) ?_
          refine lv_if_eq (tgt := 97) hx hb dX2_words_90 (by decide) (fun c90 => ?_) (fun c90 => ?_)
          · refine lv_iconst (v := (0 : Int32)) hx hb dX2_words_97 (by decide) ?_
            refine lv_iadd hx hb dX2_words_98 ?_
            refine g_topi (nI (fCnt (fun u => fWw F N what (nI u)) 0 (j + 1))) (by have h := @cnt_s (fun u => fWw F N what (nI u)) j; rw [show bI ((fun u => fWw F N what (nI u)) j) = 0 from c90] at h; exact h) ?_
            refine lv_istore_n (lv' := [(2, _), (4, _), (3, _), (1, _), (0, _)]) hx hb dX2_words_99 rfl hl (by decide) rfl (fun ls hl => ?_)
            refine g_inc (lv' := [(3, _), (2, _), (4, _), (1, _), (0, _)]) M dX2_words_100 hl (k := 2) rfl (by decide) rfl (fun ls hl => ?_)
            refine lv_goto (tgt := 4) hx hb dX2_words_103 (by decide) ?_
            exact ih4 (16 - (j + 1)) _ _ _ _ _ _ (by omega) ⟨j + 1, _, lv_sub hl [0, 1, 3, 4] rfl, by omega, rfl, (tQ.trans tQ.rf hs (by decide)), rfl, rfl, rfl⟩ hR hS
          · refine lv_iconst (v := (1 : Int32)) hx hb dX2_words_93 (by decide) ?_
            refine lv_goto (tgt := 98) hx hb dX2_words_94 (by decide) ?_
            refine lv_iadd hx hb dX2_words_98 ?_
            refine g_topi (nI (fCnt (fun u => fWw F N what (nI u)) 0 (j + 1))) (by have h := @cnt_s (fun u => fWw F N what (nI u)) j; rw [show bI ((fun u => fWw F N what (nI u)) j) = 1 from bI_1.mpr (bI_n0.mp c90)] at h; exact h) ?_
            refine lv_istore_n (lv' := [(2, _), (4, _), (3, _), (1, _), (0, _)]) hx hb dX2_words_99 rfl hl (by decide) rfl (fun ls hl => ?_)
            refine g_inc (lv' := [(3, _), (2, _), (4, _), (1, _), (0, _)]) M dX2_words_100 hl (k := 2) rfl (by decide) rfl (fun ls hl => ?_)
            refine lv_goto (tgt := 4) hx hb dX2_words_103 (by decide) ?_
            exact ih4 (16 - (j + 1)) _ _ _ _ _ _ (by omega) ⟨j + 1, _, lv_sub hl [0, 1, 3, 4] rfl, by omega, rfl, (tQ.trans tQ.rf hs (by decide)), rfl, rfl, rfl⟩ hR hS
        · refine lv_aload_n hx hb dX2_words_39 rfl (lv_at hl 3 rfl) ?_
          refine lv_iload_n hx hb dX2_words_40 rfl (lv_at hl 0 rfl) ?_
          refine g_ki (g_V (As := [_]) M hR hS (c_X2_hasValue l K hA (by first | assumption | rfl) _ (by assumption)) (lw_V q1304 q1306 qs50 q73 q1307) 1 md_X2_hasValue rfl ⟨rfl, rfl⟩ ⟨Nat.le_of_ble_eq_true rfl, Nat.le_of_ble_eq_true rfl⟩ (hR.recv M (tG_0 hA) rfl) rfl hl.1 rfl (lv_room (Nat.le_of_ble_eq_true rfl)) dX2_words_41 ⟨(by first | exact Nat.le_refl _ | exact Nat.zero_le _ | (dsimp only; omega)), (by first | exact Nat.le_refl _ | exact Nat.zero_le _ | (dsimp only; omega))⟩) hS (fun r41 G41 H locs hp41 hR hS => ?_)
          obtain ⟨rfl, V41, rfl, hs41⟩ := hp41
          have hF := hs41.row hF (by decide)
          refine lv_if_ne (tgt := 51) hx hb dX2_words_44 (by decide) (fun c44 => ?_) (fun c44 => ?_)
          · refine lv_iconst (v := (0 : Int32)) hx hb dX2_words_51 (by decide) ?_
            refine lv_goto (tgt := 85) hx hb dX2_words_52 (by decide) ?_
            have hq : fWw F N what (nI j) = false := by unfold fWw; rw [if_neg c12, if_pos c26, bI_n0.mp c44, Bool.not_true, Bool.and_false]
            refine g_topi (bI (fWw F N what (nI j))) (by rw [hq]; rfl) ?_
            refine lv_istore (lv' := [(4, _), (3, _), (2, _), (1, _), (0, _)]) hx hb dX2_words_85 hl (by decide) rfl (fun ls hl => ?_)
            refine lv_iload_n hx hb dX2_words_87 rfl (lv_at hl 2 rfl) ?_
            refine lv_iload hx hb dX2_words_88 (lv_at hl 0 rfl) ?_
            refine lv_if_eq (tgt := 97) hx hb dX2_words_90 (by decide) (fun c90 => ?_) (fun c90 => ?_)
            · refine lv_iconst (v := (0 : Int32)) hx hb dX2_words_97 (by decide) ?_
              refine lv_iadd hx hb dX2_words_98 ?_
              refine g_topi (nI (fCnt (fun u => fWw F N what (nI u)) 0 (j + 1))) (by have h := @cnt_s (fun u => fWw F N what (nI u)) j; rw [show bI ((fun u => fWw F N what (nI u)) j) = 0 from c90] at h; exact h) ?_
              refine lv_istore_n (lv' := [(2, _), (4, _), (3, _), (1, _), (0, _)]) hx hb dX2_words_99 rfl hl (by decide) rfl (fun ls hl => ?_)
              refine g_inc (lv' := [(3, _), (2, _), (4, _), (1, _), (0, _)]) M dX2_words_100 hl (k := 2) rfl (by decide) rfl (fun ls hl => ?_)
              refine lv_goto (tgt := 4) hx hb dX2_words_103 (by decide) ?_
              exact ih4 (16 - (j + 1)) _ _ _ _ _ _ (by omega) ⟨j + 1, _, lv_sub hl [0, 1, 3, 4] rfl, by omega, rfl, (tQ.trans (tQ.trans tQ.rf hs (by decide)) hs41 (by decide)), rfl, rfl, rfl⟩ hR hS
            · refine lv_iconst (v := (1 : Int32)) hx hb dX2_words_93 (by decide) ?_
              refine lv_goto (tgt := 98) hx hb dX2_words_94 (by decide) ?_
              refine lv_iadd hx hb dX2_words_98 ?_
              refine g_topi (nI (fCnt (fun u => fWw F N what (nI u)) 0 (j + 1))) (by have h := @cnt_s (fun u => fWw F N what (nI u)) j; rw [show bI ((fun u => fWw F N what (nI u)) j) = 1 from bI_1.mpr (bI_n0.mp c90)] at h; exact h) ?_
              refine lv_istore_n (lv' := [(2, _), (4, _), (3, _), (1, _), (0, _)]) hx hb dX2_words_99 rfl hl (by decide) rfl (fun ls hl => ?_)
              refine g_inc (lv' := [(3, _), (2, _), (4, _), (1, _), (0, _)]) M dX2_words_100 hl (k := 2) rfl (by decide) rfl (fun ls hl => ?_)
              refine lv_goto (tgt := 4) hx hb dX2_words_103 (by decide) ?_
              exact ih4 (16 - (j + 1)) _ _ _ _ _ _ (by omega) ⟨j + 1, _, lv_sub hl [0, 1, 3, 4] rfl, by omega, rfl, (tQ.trans (tQ.trans tQ.rf hs (by decide)) hs41 (by decide)), rfl, rfl, rfl⟩ hR hS
          · refine lv_iconst (v := (1 : Int32)) hx hb dX2_words_47 (by decide) ?_
            refine lv_goto (tgt := 85) hx hb dX2_words_48 (by decide) ?_
            have hq : fWw F N what (nI j) = true := by unfold fWw; obtain ⟨b, hb1⟩ := oI_s c36; rw [if_neg c12, if_pos c26, bI_0.mp c44, hb1]; rfl
            refine g_topi (bI (fWw F N what (nI j))) (by rw [hq]; rfl) ?_
            refine lv_istore (lv' := [(4, _), (3, _), (2, _), (1, _), (0, _)]) hx hb dX2_words_85 hl (by decide) rfl (fun ls hl => ?_)
            refine lv_iload_n hx hb dX2_words_87 rfl (lv_at hl 2 rfl) ?_
            refine lv_iload hx hb dX2_words_88 (lv_at hl 0 rfl) ?_
            refine lv_if_eq (tgt := 97) hx hb dX2_words_90 (by decide) (fun c90 => ?_) (fun c90 => ?_)
            · refine lv_iconst (v := (0 : Int32)) hx hb dX2_words_97 (by decide) ?_
              refine lv_iadd hx hb dX2_words_98 ?_
              refine g_topi (nI (fCnt (fun u => fWw F N what (nI u)) 0 (j + 1))) (by have h := @cnt_s (fun u => fWw F N what (nI u)) j; rw [show bI ((fun u => fWw F N what (nI u)) j) = 0 from c90] at h; exact h) ?_
              refine lv_istore_n (lv' := [(2, _), (4, _), (3, _), (1, _), (0, _)]) hx hb dX2_words_99 rfl hl (by decide) rfl (fun ls hl => ?_)
              refine g_inc (lv' := [(3, _), (2, _), (4, _), (1, _), (0, _)]) M dX2_words_100 hl (k := 2) rfl (by decide) rfl (fun ls hl => ?_)
              refine lv_goto (tgt := 4) hx hb dX2_words_103 (by decide) ?_
              exact ih4 (16 - (j + 1)) _ _ _ _ _ _ (by omega) ⟨j + 1, _, lv_sub hl [0, 1, 3, 4] rfl, by omega, rfl, (tQ.trans (tQ.trans tQ.rf hs (by decide)) hs41 (by decide)), rfl, rfl, rfl⟩ hR hS
            · refine lv_iconst (v := (1 : Int32)) hx hb dX2_words_93 (by decide) ?_
              refine lv_goto (tgt := 98) hx hb dX2_words_94 (by decide) ?_
              refine lv_iadd hx hb dX2_words_98 ?_
              refine g_topi (nI (fCnt (fun u => fWw F N what (nI u)) 0 (j + 1))) (by have h := @cnt_s (fun u => fWw F N what (nI u)) j; rw [show bI ((fun u => fWw F N what (nI u)) j) = 1 from bI_1.mpr (bI_n0.mp c90)] at h; exact h) ?_
              refine lv_istore_n (lv' := [(2, _), (4, _), (3, _), (1, _), (0, _)]) hx hb dX2_words_99 rfl hl (by decide) rfl (fun ls hl => ?_)
              refine g_inc (lv' := [(3, _), (2, _), (4, _), (1, _), (0, _)]) M dX2_words_100 hl (k := 2) rfl (by decide) rfl (fun ls hl => ?_)
              refine lv_goto (tgt := 4) hx hb dX2_words_103 (by decide) ?_
              exact ih4 (16 - (j + 1)) _ _ _ _ _ _ (by omega) ⟨j + 1, _, lv_sub hl [0, 1, 3, 4] rfl, by omega, rfl, (tQ.trans (tQ.trans tQ.rf hs (by decide)) hs41 (by decide)), rfl, rfl, rfl⟩ hR hS
    · refine lv_aload_n hx hb dX2_words_15 rfl (lv_at hl 3 rfl) ?_
      refine lv_iload_n hx hb dX2_words_16 rfl (lv_at hl 0 rfl) ?_
      refine g_ki (g_V (As := [_]) M hR hS (c_X2_hasValue l K hA (by first | assumption | rfl) _ (by assumption)) (lw_V q1304 q1306 qs50 q73 q1307) 1 md_X2_hasValue rfl ⟨rfl, rfl⟩ ⟨Nat.le_of_ble_eq_true rfl, Nat.le_of_ble_eq_true rfl⟩ (hR.recv M (tG_0 hA) rfl) rfl hl.1 rfl (lv_room (Nat.le_of_ble_eq_true rfl)) dX2_words_17 ⟨(by first | exact Nat.le_refl _ | exact Nat.zero_le _ | (dsimp only; omega)), (by first | exact Nat.le_refl _ | exact Nat.zero_le _ | (dsimp only; omega))⟩) hS (fun r17 G17 H locs hp17 hR hS => ?_)
      obtain ⟨rfl, V17, rfl, hs17⟩ := hp17
      have hF := hs17.row hF (by decide)
      refine lv_goto (tgt := 85) hx hb dX2_words_20 (by decide) ?_
      have hq : fWw F N what (nI j) = (fVl F N 17 (nI j)).isSome := by unfold fWw; rw [if_pos c12]
      refine g_topi (bI (fWw F N what (nI j))) (by rw [hq]) ?_
      refine lv_istore (lv' := [(4, _), (3, _), (2, _), (1, _), (0, _)]) hx hb dX2_words_85 hl (by decide) rfl (fun ls hl => ?_)
      refine lv_iload_n hx hb dX2_words_87 rfl (lv_at hl 2 rfl) ?_
      refine lv_iload hx hb dX2_words_88 (lv_at hl 0 rfl) ?_
      refine lv_if_eq (tgt := 97) hx hb dX2_words_90 (by decide) (fun c90 => ?_) (fun c90 => ?_)
      · refine lv_iconst (v := (0 : Int32)) hx hb dX2_words_97 (by decide) ?_
        refine lv_iadd hx hb dX2_words_98 ?_
        refine g_topi (nI (fCnt (fun u => fWw F N what (nI u)) 0 (j + 1))) (by have h := @cnt_s (fun u => fWw F N what (nI u)) j; rw [show bI ((fun u => fWw F N what (nI u)) j) = 0 from c90] at h; exact h) ?_
        refine lv_istore_n (lv' := [(2, _), (4, _), (3, _), (1, _), (0, _)]) hx hb dX2_words_99 rfl hl (by decide) rfl (fun ls hl => ?_)
        refine g_inc (lv' := [(3, _), (2, _), (4, _), (1, _), (0, _)]) M dX2_words_100 hl (k := 2) rfl (by decide) rfl (fun ls hl => ?_)
        refine lv_goto (tgt := 4) hx hb dX2_words_103 (by decide) ?_
        exact ih4 (16 - (j + 1)) _ _ _ _ _ _ (by omega) ⟨j + 1, _, lv_sub hl [0, 1, 3, 4] rfl, by omega, rfl, (tQ.trans (tQ.trans tQ.rf hs (by decide)) hs17 (by decide)), rfl, rfl, rfl⟩ hR hS
      · refine lv_iconst (v := (1 : Int32)) hx hb dX2_words_93 (by decide) ?_
        refine lv_goto (tgt := 98) hx hb dX2_words_94 (by decide) ?_
        refine lv_iadd hx hb dX2_words_98 ?_
        refine g_topi (nI (fCnt (fun u => fWw F N what (nI u)) 0 (j + 1))) (by have h := @cnt_s (fun u => fWw F N what (nI u)) j; rw [show bI ((fun u => fWw F N what (nI u)) j) = 1 from bI_1.mpr (bI_n0.mp c90)] at h; exact h) ?_
        refine lv_istore_n (lv' := [(2, _), (4, _), (3, _), (1, _), (0, _)]) hx hb dX2_words_99 rfl hl (by decide) rfl (fun ls hl => ?_)
        refine g_inc (lv' := [(3, _), (2, _), (4, _), (1, _), (0, _)]) M dX2_words_100 hl (k := 2) rfl (by decide) rfl (fun ls hl => ?_)
        refine lv_goto (tgt := 4) hx hb dX2_words_103 (by decide) ?_
        exact ih4 (16 - (j + 1)) _ _ _ _ _ _ (by omega) ⟨j + 1, _, lv_sub hl [0, 1, 3, 4] rfl, by omega, rfl, (tQ.trans (tQ.trans tQ.rf hs (by decide)) hs17 (by decide)), rfl, rfl, rfl⟩ hR hS

theorem md_X2_wordsOf : gMd yX2_wordsOf 1 := by
  unfold gMd
  decide +kernel
set_option maxHeartbeats 4000000 in
set_option maxRecDepth 100000 in
theorem c_X2_wordsOf (l : Launch) (K : gK) {G0 : gG} {A : Nat → Nat} {V : tV} {F : Nat → Int32} (hA : tInj A) (hF : V.2.1 1 = F) (p9 : Int32) {P N : Nat} (ok : fOk F P N) : Met l yX2_wordsOf (ws_ yX2_wordsOf cX2_wordsOf 4 (Option.some Jvm.ClassFile.FieldType.int)) (gRm 2 0 0 43) (gPre K [.ref (A 0), .int p9] (tG K G0 A V)) (gQi K (fun r G1 => r = fBits (fun o => fHg F o && decide (fo F o 0 = p9)) (fun o => fo F o 1) N ∧ G1 = tG K G0 A V)) 0 0 (gA K) := by
  refine g_met (by decide) (Nat.le_of_ble_eq_true rfl) ?_
  intro p e s m below meth c M hr hlk hnm hR ls hl
  have M : gM K p s m _ c cX2_wordsOf 4 RX2 := M
  have hx := M.hx
  have hb := M.hb
  have hS : va_S (gA K) s.heap s.heap [] := va_S.rf
  have hl : lv_has ls 4 [(0, .ref (A 0)), (1, .int p9)] := hl
  have hF0 := hF
  have hN := ok.hN
  have hN2 := ok.hN2
  refine lv_iconst (v := (0 : Int32)) hx hb dX2_wordsOf_0 (by decide) ?_
  refine lv_istore_n (lv' := [(2, _), (0, _), (1, _)]) hx hb dX2_wordsOf_1 rfl hl (by decide) rfl (fun ls hl => ?_)
  refine lv_iconst (v := (0 : Int32)) hx hb dX2_wordsOf_2 (by decide) ?_
  refine lv_istore_n (lv' := [(3, _), (2, _), (0, _), (1, _)]) hx hb dX2_wordsOf_3 rfl hl (by decide) rfl (fun ls hl => ?_)
  refine g_loop (pc := 4) (fun (k : Nat) (ls : Array Slot) (G : gG) (cells slots : Nat) => ∃ j, lv_has ls 4 [(3, .int (nI j)), (2, .int (fBits (fun o => fHg F o && decide (fo F o 0 = p9)) (fun o => fo F o 1) j)), (1, .int p9), (0, .ref (A 0))] ∧ j ≤ N ∧ k = N - j ∧ G = tG K G0 A V ∧ cells = 0 ∧ slots = 0) ?_ (N) ⟨0, lv_sub hl [0, 1, 3, 2] rfl, by omega, rfl, rfl, rfl, rfl⟩ hR hS
  intro k ls G H locs cells slots hI hR hS ih4
  obtain ⟨j, hl, hj, rfl, rfl, rfl, rfl⟩ := hI
  refine lv_iload_n hx hb dX2_wordsOf_4 rfl (lv_at hl 0 rfl) ?_
  refine lv_aload_n hx hb dX2_wordsOf_5 rfl (lv_at hl 3 rfl) ?_
  refine t_get M hA hR 1 (by decide) q1040 rfl rfl dX2_wordsOf_6 ?_
  refine lv_iconst (v := (1 : Int32)) hx hb dX2_wordsOf_9 (by decide) ?_
  refine t_aldF M hA (by first | assumption | rfl) hR (by decide) 1 rfl (by decide) dX2_wordsOf_10 ?_
  refine lv_icmp_ge (tgt := 53) hx hb dX2_wordsOf_11 (by decide) (fun c11 => ?_) (fun c11 => ?_)
  · refine lv_iload_n hx hb dX2_wordsOf_53 rfl (lv_at hl 1 rfl) ?_
    exact g_iret M hr hlk hR hS (by omega) (by omega) dX2_wordsOf_54 (⟨by rw [ge_end hN c11 hN2 hj], rfl⟩)
  · have hjN := ge_not hN c11 hN2 hj
    refine lv_iload_n hx hb dX2_wordsOf_14 rfl (lv_at hl 1 rfl) ?_
    refine lv_aload_n hx hb dX2_wordsOf_15 rfl (lv_at hl 3 rfl) ?_
    refine lv_iload_n hx hb dX2_wordsOf_16 rfl (lv_at hl 0 rfl) ?_
    refine g_ki (g_V (As := [_]) M hR hS (c_X2_hangs l K hA (by first | assumption | rfl) j (by omega)) (lw_V q1169 q1171 qs29 q73 q1172) 1 md_X2_hangs rfl ⟨rfl, rfl⟩ ⟨Nat.le_of_ble_eq_true rfl, Nat.le_of_ble_eq_true rfl⟩ (hR.recv M (tG_0 hA) rfl) rfl hl.1 rfl (lv_room (Nat.le_of_ble_eq_true rfl)) dX2_wordsOf_17 ⟨(by first | exact Nat.le_refl _ | exact Nat.zero_le _ | (dsimp only; omega)), (by first | exact Nat.le_refl _ | exact Nat.zero_le _ | (dsimp only; omega))⟩) hS (fun r17 G17 H locs hp17 hR hS => ?_)
    obtain ⟨rfl, rfl⟩ := hp17
    refine lv_if_eq (tgt := 44) hx hb dX2_wordsOf_20 (by decide) (fun c20 => ?_) (fun c20 => ?_)
    · refine lv_iconst (v := (0 : Int32)) hx hb dX2_wordsOf_44 (by decide) ?_
      refine lv_ior hx hb dX2_wordsOf_45 ?_
      refine g_topi (fBits (fun o => fHg F o && decide (fo F o 0 = p9)) (fun o => fo F o 1) (j + 1)) (bits_f (q := (fun o => fHg F o && decide (fo F o 0 = p9))) (b := (fun o => fo F o 1)) (bI_f (by simp [bI_0.mp c20]))) ?_
      refine lv_istore_n (lv' := [(2, _), (3, _), (1, _), (0, _)]) hx hb dX2_wordsOf_46 rfl hl (by decide) rfl (fun ls hl => ?_)
      refine g_inc (lv' := [(3, _), (2, _), (1, _), (0, _)]) M dX2_wordsOf_47 hl (k := 1) rfl (by decide) rfl (fun ls hl => ?_)
      refine lv_goto (tgt := 4) hx hb dX2_wordsOf_50 (by decide) ?_
      exact ih4 (N - (j + 1)) _ _ _ _ _ _ (by omega) ⟨j + 1, lv_sub hl [0, 1, 2, 3] rfl, by omega, rfl, rfl, rfl, rfl⟩ hR hS
    · refine lv_aload_n hx hb dX2_wordsOf_23 rfl (lv_at hl 3 rfl) ?_
      refine lv_iload_n hx hb dX2_wordsOf_24 rfl (lv_at hl 0 rfl) ?_
      refine lv_iconst (v := (0 : Int32)) hx hb dX2_wordsOf_25 (by decide) ?_
      refine g_ki (g_V (As := [_, _]) M hR hS (c_X2_of l K hA (by first | assumption | rfl) j 0 (by omega)) (lw_V q1153 q1155 qs27 q73 q1156) 2 md_X2_of rfl ⟨rfl, rfl⟩ ⟨Nat.le_of_ble_eq_true rfl, Nat.le_of_ble_eq_true rfl⟩ (hR.recv M (tG_0 hA) rfl) rfl hl.1 rfl (lv_room (Nat.le_of_ble_eq_true rfl)) dX2_wordsOf_26 ⟨(by first | exact Nat.le_refl _ | exact Nat.zero_le _ | (dsimp only; omega)), (by first | exact Nat.le_refl _ | exact Nat.zero_le _ | (dsimp only; omega))⟩) hS (fun r26 G26 H locs hp26 hR hS => ?_)
      obtain ⟨rfl, rfl⟩ := hp26
      refine lv_iload_n hx hb dX2_wordsOf_29 rfl (lv_at hl 2 rfl) ?_
      refine lv_icmp_ne (tgt := 44) hx hb dX2_wordsOf_30 (by decide) (fun c30 => ?_) (fun c30 => ?_)
      · refine lv_iconst (v := (0 : Int32)) hx hb dX2_wordsOf_44 (by decide) ?_
        refine lv_ior hx hb dX2_wordsOf_45 ?_
        refine g_topi (fBits (fun o => fHg F o && decide (fo F o 0 = p9)) (fun o => fo F o 1) (j + 1)) (bits_f (q := (fun o => fHg F o && decide (fo F o 0 = p9))) (b := (fun o => fo F o 1)) (bI_f (by simp [c30]))) ?_
        refine lv_istore_n (lv' := [(2, _), (3, _), (1, _), (0, _)]) hx hb dX2_wordsOf_46 rfl hl (by decide) rfl (fun ls hl => ?_)
        refine g_inc (lv' := [(3, _), (2, _), (1, _), (0, _)]) M dX2_wordsOf_47 hl (k := 1) rfl (by decide) rfl (fun ls hl => ?_)
        refine lv_goto (tgt := 4) hx hb dX2_wordsOf_50 (by decide) ?_
        exact ih4 (N - (j + 1)) _ _ _ _ _ _ (by omega) ⟨j + 1, lv_sub hl [0, 1, 2, 3] rfl, by omega, rfl, rfl, rfl, rfl⟩ hR hS
      · refine lv_iconst (v := (1 : Int32)) hx hb dX2_wordsOf_33 (by decide) ?_
        refine lv_aload_n hx hb dX2_wordsOf_34 rfl (lv_at hl 3 rfl) ?_
        refine lv_iload_n hx hb dX2_wordsOf_35 rfl (lv_at hl 0 rfl) ?_
        refine lv_iconst (v := (1 : Int32)) hx hb dX2_wordsOf_36 (by decide) ?_
        refine g_ki (g_V (As := [_, _]) M hR hS (c_X2_of l K hA (by first | assumption | rfl) j 1 (by omega)) (lw_V q1153 q1155 qs27 q73 q1156) 2 md_X2_of rfl ⟨rfl, rfl⟩ ⟨Nat.le_of_ble_eq_true rfl, Nat.le_of_ble_eq_true rfl⟩ (hR.recv M (tG_0 hA) rfl) rfl hl.1 rfl (lv_room (Nat.le_of_ble_eq_true rfl)) dX2_wordsOf_37 ⟨(by first | exact Nat.le_refl _ | exact Nat.zero_le _ | (dsimp only; omega)), (by first | exact Nat.le_refl _ | exact Nat.zero_le _ | (dsimp only; omega))⟩) hS (fun r37 G37 H locs hp37 hR hS => ?_)
        obtain ⟨rfl, rfl⟩ := hp37
        refine lv_ishl hx hb dX2_wordsOf_40 ?_
        refine lv_goto (tgt := 45) hx hb dX2_wordsOf_41 (by decide) ?_
        refine lv_ior hx hb dX2_wordsOf_45 ?_
        refine g_topi (fBits (fun o => fHg F o && decide (fo F o 0 = p9)) (fun o => fo F o 1) (j + 1)) (bits_t (q := (fun o => fHg F o && decide (fo F o 0 = p9))) (b := (fun o => fo F o 1)) (by simp [bI_n0.mp c20, c30])) ?_
        refine lv_istore_n (lv' := [(2, _), (3, _), (1, _), (0, _)]) hx hb dX2_wordsOf_46 rfl hl (by decide) rfl (fun ls hl => ?_)
        refine g_inc (lv' := [(3, _), (2, _), (1, _), (0, _)]) M dX2_wordsOf_47 hl (k := 1) rfl (by decide) rfl (fun ls hl => ?_)
        refine lv_goto (tgt := 4) hx hb dX2_wordsOf_50 (by decide) ?_
        exact ih4 (N - (j + 1)) _ _ _ _ _ _ (by omega) ⟨j + 1, lv_sub hl [0, 1, 2, 3] rfl, by omega, rfl, rfl, rfl, rfl⟩ hR hS

theorem md_X2_ordersOf : gMd yX2_ordersOf 2 := by
  unfold gMd
  decide +kernel
set_option maxHeartbeats 4000000 in
set_option maxRecDepth 100000 in
theorem c_X2_ordersOf (l : Launch) (K : gK) {G0 : gG} {A : Nat → Nat} {V : tV} {F : Nat → Int32} (hA : tInj A) (hF : V.2.1 1 = F) (p9 what : Int32) {P N : Nat} (ok : fOk F P N) : Met l yX2_ordersOf (ws_ yX2_ordersOf cX2_ordersOf 6 (Option.some Jvm.ClassFile.FieldType.int)) (gRm 4 0 0 88) (gPre K [.ref (A 0), .int p9, .int what] (tG K G0 A V)) (gQi K (fun r G1 => r = nI (fCnt (fOw F N p9 what) 0 N) ∧ G1 = tG K G0 A V)) 0 0 (gA K) := by
  refine g_met (by decide) (Nat.le_of_ble_eq_true rfl) ?_
  intro p e s m below meth c M hr hlk hnm hR ls hl
  have M : gM K p s m _ c cX2_ordersOf 6 RX2 := M
  have hx := M.hx
  have hb := M.hb
  have hS : va_S (gA K) s.heap s.heap [] := va_S.rf
  have hl : lv_has ls 6 [(0, .ref (A 0)), (1, .int p9), (2, .int what)] := hl
  have hF0 := hF
  have hN := ok.hN
  have hN2 := ok.hN2
  refine lv_iconst (v := (0 : Int32)) hx hb dX2_ordersOf_0 (by decide) ?_
  refine lv_istore_n (lv' := [(3, _), (0, _), (1, _), (2, _)]) hx hb dX2_ordersOf_1 rfl hl (by decide) rfl (fun ls hl => ?_)
  refine lv_iconst (v := (0 : Int32)) hx hb dX2_ordersOf_2 (by decide) ?_
  refine lv_istore (lv' := [(4, _), (3, _), (0, _), (1, _), (2, _)]) hx hb dX2_ordersOf_3 hl (by decide) rfl (fun ls hl => ?_)
  refine g_loop (pc := 5) (fun (k : Nat) (ls : Array Slot) (G : gG) (cells slots : Nat) => ∃ j, lv_has ls 6 [(4, .int (nI j)), (3, .int (nI (fCnt (fOw F N p9 what) 0 j))), (2, .int what), (1, .int p9), (0, .ref (A 0))] ∧ j ≤ N ∧ k = N - j ∧ G = tG K G0 A V ∧ cells = 0 ∧ slots = 0) ?_ (N) ⟨0, lv_sub hl [0, 1, 4, 3, 2] rfl, by omega, rfl, rfl, rfl, rfl⟩ hR hS
  intro k ls G H locs cells slots hI hR hS ih5
  obtain ⟨j, hl, hj, rfl, rfl, rfl, rfl⟩ := hI
  refine lv_iload hx hb dX2_ordersOf_5 (lv_at hl 0 rfl) ?_
  refine lv_aload_n hx hb dX2_ordersOf_7 rfl (lv_at hl 4 rfl) ?_
  refine t_get M hA hR 1 (by decide) q1040 rfl rfl dX2_ordersOf_8 ?_
  refine lv_iconst (v := (1 : Int32)) hx hb dX2_ordersOf_11 (by decide) ?_
  refine t_aldF M hA (by first | assumption | rfl) hR (by decide) 1 rfl (by decide) dX2_ordersOf_12 ?_
  refine lv_icmp_ge (tgt := 91) hx hb dX2_ordersOf_13 (by decide) (fun c13 => ?_) (fun c13 => ?_)
  · refine lv_iload_n hx hb dX2_ordersOf_91 rfl (lv_at hl 1 rfl) ?_
    exact g_iret M hr hlk hR hS (by omega) (by omega) dX2_ordersOf_92 (⟨by rw [ge_end hN c13 hN2 hj], rfl⟩)
  · have hjN := ge_not hN c13 hN2 hj
    refine lv_iload_n hx hb dX2_ordersOf_16 rfl (lv_at hl 2 rfl) ?_
    refine lv_iconst (v := (1 : Int32)) hx hb dX2_ordersOf_17 (by decide) ?_
    refine lv_icmp_eq (tgt := 54) hx hb dX2_ordersOf_18 (by decide) (fun c18 => ?_) (fun c18 => ?_)
    · refine lv_iconst (v := (1 : Int32)) hx hb dX2_ordersOf_54 (by decide) ?_
      refine lv_goto (tgt := 59) hx hb dX2_ordersOf_55 (by decide) ?_
      have hq : (decide (what = 1) || if what = 2 then fHg F j else decide (oI (fRul F (fo F j 1) N) = nI j)) = true := by simp [c18]
      refine lv_istore (lv' := [(5, _), (4, _), (3, _), (2, _), (1, _), (0, _)]) hx hb dX2_ordersOf_59 hl (by decide) rfl (fun ls hl => ?_)
      refine lv_iload_n hx hb dX2_ordersOf_61 rfl (lv_at hl 2 rfl) ?_
      refine lv_aload_n hx hb dX2_ordersOf_62 rfl (lv_at hl 5 rfl) ?_
      refine lv_iload hx hb dX2_ordersOf_63 (lv_at hl 1 rfl) ?_
      refine lv_iconst (v := (0 : Int32)) hx hb dX2_ordersOf_65 (by decide) ?_
      refine g_ki (g_V (As := [_, _]) M hR hS (c_X2_of l K hA (by first | assumption | rfl) j 0 (by omega)) (lw_V q1153 q1155 qs27 q73 q1156) 2 md_X2_of rfl ⟨rfl, rfl⟩ ⟨Nat.le_of_ble_eq_true rfl, Nat.le_of_ble_eq_true rfl⟩ (hR.recv M (tG_0 hA) rfl) rfl hl.1 rfl (lv_room (Nat.le_of_ble_eq_true rfl)) dX2_ordersOf_66 ⟨(by first | exact Nat.le_refl _ | exact Nat.zero_le _ | (dsimp only; omega)), (by first | exact Nat.le_refl _ | exact Nat.zero_le _ | (dsimp only; omega))⟩) hS (fun r66 G66 H locs hp66 hR hS => ?_)
      obtain ⟨rfl, rfl⟩ := hp66
      refine lv_iload_n hx hb dX2_ordersOf_69 rfl (lv_at hl 4 rfl) ?_
      refine lv_icmp_ne (tgt := 82) hx hb dX2_ordersOf_70 (by decide) (fun c70 => ?_) (fun c70 => ?_)
      · refine lv_iconst (v := (0 : Int32)) hx hb dX2_ordersOf_82 (by decide) ?_
        refine lv_iadd hx hb dX2_ordersOf_83 ?_
        refine g_topi (nI (fCnt (fOw F N p9 what) 0 (j + 1))) (by have h := @cnt_s (fOw F N p9 what) j; rw [show fOw F N p9 what j = false from by unfold fOw; rw [hq, decide_eq_false c70]; rfl] at h; exact h) ?_
        refine lv_istore_n (lv' := [(3, _), (5, _), (4, _), (2, _), (1, _), (0, _)]) hx hb dX2_ordersOf_84 rfl hl (by decide) rfl (fun ls hl => ?_)
        refine g_inc (lv' := [(4, _), (3, _), (5, _), (2, _), (1, _), (0, _)]) M dX2_ordersOf_85 hl (k := 2) rfl (by decide) rfl (fun ls hl => ?_)
        refine lv_goto (tgt := 5) hx hb dX2_ordersOf_88 (by decide) ?_
        exact ih5 (N - (j + 1)) _ _ _ _ _ _ (by omega) ⟨j + 1, lv_sub hl [0, 1, 3, 4, 5] rfl, by omega, rfl, rfl, rfl, rfl⟩ hR hS
      · refine lv_iload hx hb dX2_ordersOf_73 (lv_at hl 0 rfl) ?_
        refine lv_if_eq (tgt := 82) hx hb dX2_ordersOf_75 (by decide) (fun c75 => absurd c75 (by decide)) (fun c75 => ?_)
        refine lv_iconst (v := (1 : Int32)) hx hb dX2_ordersOf_78 (by decide) ?_
        refine lv_goto (tgt := 83) hx hb dX2_ordersOf_79 (by decide) ?_
        refine lv_iadd hx hb dX2_ordersOf_83 ?_
        refine g_topi (nI (fCnt (fOw F N p9 what) 0 (j + 1))) (by have h := @cnt_s (fOw F N p9 what) j; rw [show fOw F N p9 what j = true from by unfold fOw; rw [hq, decide_eq_true c70]; rfl] at h; exact h) ?_
        refine lv_istore_n (lv' := [(3, _), (5, _), (4, _), (2, _), (1, _), (0, _)]) hx hb dX2_ordersOf_84 rfl hl (by decide) rfl (fun ls hl => ?_)
        refine g_inc (lv' := [(4, _), (3, _), (5, _), (2, _), (1, _), (0, _)]) M dX2_ordersOf_85 hl (k := 2) rfl (by decide) rfl (fun ls hl => ?_)
        refine lv_goto (tgt := 5) hx hb dX2_ordersOf_88 (by decide) ?_
        exact ih5 (N - (j + 1)) _ _ _ _ _ _ (by omega) ⟨j + 1, lv_sub hl [0, 1, 3, 4, 5] rfl, by omega, rfl, rfl, rfl, rfl⟩ hR hS
    · refine lv_iload_n hx hb dX2_ordersOf_21 rfl (lv_at hl 2 rfl) ?_
      refine lv_iconst (v := (2 : Int32)) hx hb dX2_ordersOf_22 (by decide) ?_
      refine lv_icmp_ne (tgt := 38) hx hb dX2_ordersOf_23 (by decide) (fun c23 => ?_) (fun c23 => ?_)
      · refine lv_aload_n hx hb dX2_ordersOf_38 rfl (lv_at hl 4 rfl) ?_
        refine lv_aload_n hx hb dX2_ordersOf_39 rfl (lv_at hl 4 rfl) ?_
        refine lv_iload hx hb dX2_ordersOf_40 (lv_at hl 0 rfl) ?_
        refine lv_iconst (v := (1 : Int32)) hx hb dX2_ordersOf_42 (by decide) ?_
        refine g_ki (g_V (As := [_, _]) M hR hS (c_X2_of l K hA (by first | assumption | rfl) j 1 (by omega)) (lw_V q1153 q1155 qs27 q73 q1156) 2 md_X2_of rfl ⟨rfl, rfl⟩ ⟨Nat.le_of_ble_eq_true rfl, Nat.le_of_ble_eq_true rfl⟩ (hR.recv M (tG_0 hA) rfl) rfl hl.1 rfl (lv_room (Nat.le_of_ble_eq_true rfl)) dX2_ordersOf_43 ⟨(by first | exact Nat.le_refl _ | exact Nat.zero_le _ | (dsimp only; omega)), (by first | exact Nat.le_refl _ | exact Nat.zero_le _ | (dsimp only; omega))⟩) hS (fun r43 G43 H locs hp43 hR hS => ?_)
        obtain ⟨rfl, rfl⟩ := hp43
        refine g_ki (g_V (As := [_]) M hR hS (c_X2_ruling l K hA (by first | assumption | rfl) (fo F j 1) ok) (lw_V q1274 q1276 qs45 q73 q1277) 1 md_X2_ruling rfl ⟨rfl, rfl⟩ ⟨Nat.le_of_ble_eq_true rfl, Nat.le_of_ble_eq_true rfl⟩ (hR.recv M (tG_0 hA) rfl) rfl hl.1 rfl (lv_room (Nat.le_of_ble_eq_true rfl)) dX2_ordersOf_46 ⟨(by first | exact Nat.le_refl _ | exact Nat.zero_le _ | (dsimp only; omega)), (by first | exact Nat.le_refl _ | exact Nat.zero_le _ | (dsimp only; omega))⟩) hS (fun r46 G46 H locs hp46 hR hS => ?_)
        obtain ⟨rfl, rfl⟩ := hp46
        refine lv_iload hx hb dX2_ordersOf_49 (lv_at hl 0 rfl) ?_
        refine lv_icmp_ne (tgt := 58) hx hb dX2_ordersOf_51 (by decide) (fun c51 => ?_) (fun c51 => ?_)
        · refine lv_iconst (v := (0 : Int32)) hx hb dX2_ordersOf_58 (by decide) ?_
          have hq : (decide (what = 1) || if what = 2 then fHg F j else decide (oI (fRul F (fo F j 1) N) = nI j)) = false := by rw [decide_eq_false c18, if_neg c23, decide_eq_false c51]; rfl
          refine lv_istore (lv' := [(5, _), (4, _), (3, _), (2, _), (1, _), (0, _)]) hx hb dX2_ordersOf_59 hl (by decide) rfl (fun ls hl => ?_)
          refine lv_iload_n hx hb dX2_ordersOf_61 rfl (lv_at hl 2 rfl) ?_
          refine lv_aload_n hx hb dX2_ordersOf_62 rfl (lv_at hl 5 rfl) ?_
          refine lv_iload hx hb dX2_ordersOf_63 (lv_at hl 1 rfl) ?_
          refine lv_iconst (v := (0 : Int32)) hx hb dX2_ordersOf_65 (by decide) ?_
          refine g_ki (g_V (As := [_, _]) M hR hS (c_X2_of l K hA (by first | assumption | rfl) j 0 (by omega)) (lw_V q1153 q1155 qs27 q73 q1156) 2 md_X2_of rfl ⟨rfl, rfl⟩ ⟨Nat.le_of_ble_eq_true rfl, Nat.le_of_ble_eq_true rfl⟩ (hR.recv M (tG_0 hA) rfl) rfl hl.1 rfl (lv_room (Nat.le_of_ble_eq_true rfl)) dX2_ordersOf_66 ⟨(by first | exact Nat.le_refl _ | exact Nat.zero_le _ | (dsimp only; omega)), (by first | exact Nat.le_refl _ | exact Nat.zero_le _ | (dsimp only; omega))⟩) hS (fun r66 G66 H locs hp66 hR hS => ?_)
          obtain ⟨rfl, rfl⟩ := hp66
          refine lv_iload_n hx hb dX2_ordersOf_69 rfl (lv_at hl 4 rfl) ?_
          refine lv_icmp_ne (tgt := 82) hx hb dX2_ordersOf_70 (by decide) (fun c70 => ?_) (fun c70 => ?_)
          · refine lv_iconst (v := (0 : Int32)) hx hb dX2_ordersOf_82 (by decide) ?_
            refine lv_iadd hx hb dX2_ordersOf_83 ?_
            refine g_topi (nI (fCnt (fOw F N p9 what) 0 (j + 1))) (by have h := @cnt_s (fOw F N p9 what) j; rw [show fOw F N p9 what j = false from by unfold fOw; rw [hq, decide_eq_false c70]; rfl] at h; exact h) ?_
            refine lv_istore_n (lv' := [(3, _), (5, _), (4, _), (2, _), (1, _), (0, _)]) hx hb dX2_ordersOf_84 rfl hl (by decide) rfl (fun ls hl => ?_)
            refine g_inc (lv' := [(4, _), (3, _), (5, _), (2, _), (1, _), (0, _)]) M dX2_ordersOf_85 hl (k := 2) rfl (by decide) rfl (fun ls hl => ?_)
            refine lv_goto (tgt := 5) hx hb dX2_ordersOf_88 (by decide) ?_
            exact ih5 (N - (j + 1)) _ _ _ _ _ _ (by omega) ⟨j + 1, lv_sub hl [0, 1, 3, 4, 5] rfl, by omega, rfl, rfl, rfl, rfl⟩ hR hS
          · refine lv_iload hx hb dX2_ordersOf_73 (lv_at hl 0 rfl) ?_
            refine lv_if_eq (tgt := 82) hx hb dX2_ordersOf_75 (by decide) (fun c75 => ?_) (fun c75 => absurd c75 (not_not_intro rfl))
            refine lv_iconst (v := (0 : Int32)) hx hb dX2_ordersOf_82 (by decide) ?_
            refine lv_iadd hx hb dX2_ordersOf_83 ?_
            refine g_topi (nI (fCnt (fOw F N p9 what) 0 (j + 1))) (by have h := @cnt_s (fOw F N p9 what) j; rw [show fOw F N p9 what j = false from by unfold fOw; rw [hq, decide_eq_true c70]; rfl] at h; exact h) ?_
            refine lv_istore_n (lv' := [(3, _), (5, _), (4, _), (2, _), (1, _), (0, _)]) hx hb dX2_ordersOf_84 rfl hl (by decide) rfl (fun ls hl => ?_)
            refine g_inc (lv' := [(4, _), (3, _), (5, _), (2, _), (1, _), (0, _)]) M dX2_ordersOf_85 hl (k := 2) rfl (by decide) rfl (fun ls hl => ?_)
            refine lv_goto (tgt := 5) hx hb dX2_ordersOf_88 (by decide) ?_
            exact ih5 (N - (j + 1)) _ _ _ _ _ _ (by omega) ⟨j + 1, lv_sub hl [0, 1, 3, 4, 5] rfl, by omega, rfl, rfl, rfl, rfl⟩ hR hS
        · refine lv_iconst (v := (1 : Int32)) hx hb dX2_ordersOf_54 (by decide) ?_
          refine lv_goto (tgt := 59) hx hb dX2_ordersOf_55 (by decide) ?_
          have hq : (decide (what = 1) || if what = 2 then fHg F j else decide (oI (fRul F (fo F j 1) N) = nI j)) = true := by rw [decide_eq_false c18, if_neg c23, decide_eq_true c51]; rfl
          refine lv_istore (lv' := [(5, _), (4, _), (3, _), (2, _), (1, _), (0, _)]) hx hb dX2_ordersOf_59 hl (by decide) rfl (fun ls hl => ?_)
          refine lv_iload_n hx hb dX2_ordersOf_61 rfl (lv_at hl 2 rfl) ?_
          refine lv_aload_n hx hb dX2_ordersOf_62 rfl (lv_at hl 5 rfl) ?_
          refine lv_iload hx hb dX2_ordersOf_63 (lv_at hl 1 rfl) ?_
          refine lv_iconst (v := (0 : Int32)) hx hb dX2_ordersOf_65 (by decide) ?_
          refine g_ki (g_V (As := [_, _]) M hR hS (c_X2_of l K hA (by first | assumption | rfl) j 0 (by omega)) (lw_V q1153 q1155 qs27 q73 q1156) 2 md_X2_of rfl ⟨rfl, rfl⟩ ⟨Nat.le_of_ble_eq_true rfl, Nat.le_of_ble_eq_true rfl⟩ (hR.recv M (tG_0 hA) rfl) rfl hl.1 rfl (lv_room (Nat.le_of_ble_eq_true rfl)) dX2_ordersOf_66 ⟨(by first | exact Nat.le_refl _ | exact Nat.zero_le _ | (dsimp only; omega)), (by first | exact Nat.le_refl _ | exact Nat.zero_le _ | (dsimp only; omega))⟩) hS (fun r66 G66 H locs hp66 hR hS => ?_)
          obtain ⟨rfl, rfl⟩ := hp66
          refine lv_iload_n hx hb dX2_ordersOf_69 rfl (lv_at hl 4 rfl) ?_
          refine lv_icmp_ne (tgt := 82) hx hb dX2_ordersOf_70 (by decide) (fun c70 => ?_) (fun c70 => ?_)
          · refine lv_iconst (v := (0 : Int32)) hx hb dX2_ordersOf_82 (by decide) ?_
            refine lv_iadd hx hb dX2_ordersOf_83 ?_
            refine g_topi (nI (fCnt (fOw F N p9 what) 0 (j + 1))) (by have h := @cnt_s (fOw F N p9 what) j; rw [show fOw F N p9 what j = false from by unfold fOw; rw [hq, decide_eq_false c70]; rfl] at h; exact h) ?_
            refine lv_istore_n (lv' := [(3, _), (5, _), (4, _), (2, _), (1, _), (0, _)]) hx hb dX2_ordersOf_84 rfl hl (by decide) rfl (fun ls hl => ?_)
            refine g_inc (lv' := [(4, _), (3, _), (5, _), (2, _), (1, _), (0, _)]) M dX2_ordersOf_85 hl (k := 2) rfl (by decide) rfl (fun ls hl => ?_)
            refine lv_goto (tgt := 5) hx hb dX2_ordersOf_88 (by decide) ?_
            exact ih5 (N - (j + 1)) _ _ _ _ _ _ (by omega) ⟨j + 1, lv_sub hl [0, 1, 3, 4, 5] rfl, by omega, rfl, rfl, rfl, rfl⟩ hR hS
          · refine lv_iload hx hb dX2_ordersOf_73 (lv_at hl 0 rfl) ?_
            refine lv_if_eq (tgt := 82) hx hb dX2_ordersOf_75 (by decide) (fun c75 => absurd c75 (by decide)) (fun c75 => ?_)
            refine lv_iconst (v := (1 : Int32)) hx hb dX2_ordersOf_78 (by decide) ?_
            refine lv_goto (tgt := 83) hx hb dX2_ordersOf_79 (by decide) ?_
            refine lv_iadd hx hb dX2_ordersOf_83 ?_
            refine g_topi (nI (fCnt (fOw F N p9 what) 0 (j + 1))) (by have h := @cnt_s (fOw F N p9 what) j; rw [show fOw F N p9 what j = true from by unfold fOw; rw [hq, decide_eq_true c70]; rfl] at h; exact h) ?_
            refine lv_istore_n (lv' := [(3, _), (5, _), (4, _), (2, _), (1, _), (0, _)]) hx hb dX2_ordersOf_84 rfl hl (by decide) rfl (fun ls hl => ?_)
            refine g_inc (lv' := [(4, _), (3, _), (5, _), (2, _), (1, _), (0, _)]) M dX2_ordersOf_85 hl (k := 2) rfl (by decide) rfl (fun ls hl => ?_)
            refine lv_goto (tgt := 5) hx hb dX2_ordersOf_88 (by decide) ?_
            exact ih5 (N - (j + 1)) _ _ _ _ _ _ (by omega) ⟨j + 1, lv_sub hl [0, 1, 3, 4, 5] rfl, by omega, rfl, rfl, rfl, rfl⟩ hR hS
      · refine lv_aload_n hx hb dX2_ordersOf_26 rfl (lv_at hl 4 rfl) ?_
        refine lv_iload hx hb dX2_ordersOf_27 (lv_at hl 0 rfl) ?_
        refine g_ki (g_V (As := [_]) M hR hS (c_X2_hangs l K hA (by first | assumption | rfl) j (by omega)) (lw_V q1169 q1171 qs29 q73 q1172) 1 md_X2_hangs rfl ⟨rfl, rfl⟩ ⟨Nat.le_of_ble_eq_true rfl, Nat.le_of_ble_eq_true rfl⟩ (hR.recv M (tG_0 hA) rfl) rfl hl.1 rfl (lv_room (Nat.le_of_ble_eq_true rfl)) dX2_ordersOf_29 ⟨(by first | exact Nat.le_refl _ | exact Nat.zero_le _ | (dsimp only; omega)), (by first | exact Nat.le_refl _ | exact Nat.zero_le _ | (dsimp only; omega))⟩) hS (fun r29 G29 H locs hp29 hR hS => ?_)
        obtain ⟨rfl, rfl⟩ := hp29
        refine lv_if_eq (tgt := 58) hx hb dX2_ordersOf_32 (by decide) (fun c32 => ?_) (fun c32 => ?_)
        · refine lv_iconst (v := (0 : Int32)) hx hb dX2_ordersOf_58 (by decide) ?_
          have hq : (decide (what = 1) || if what = 2 then fHg F j else decide (oI (fRul F (fo F j 1) N) = nI j)) = false := by rw [decide_eq_false c18, if_pos c23, bI_0.mp c32]; rfl
          refine lv_istore (lv' := [(5, _), (4, _), (3, _), (2, _), (1, _), (0, _)]) hx hb dX2_ordersOf_59 hl (by decide) rfl (fun ls hl => ?_)
          refine lv_iload_n hx hb dX2_ordersOf_61 rfl (lv_at hl 2 rfl) ?_
          refine lv_aload_n hx hb dX2_ordersOf_62 rfl (lv_at hl 5 rfl) ?_
          refine lv_iload hx hb dX2_ordersOf_63 (lv_at hl 1 rfl) ?_
          refine lv_iconst (v := (0 : Int32)) hx hb dX2_ordersOf_65 (by decide) ?_
          refine g_ki (g_V (As := [_, _]) M hR hS (c_X2_of l K hA (by first | assumption | rfl) j 0 (by omega)) (lw_V q1153 q1155 qs27 q73 q1156) 2 md_X2_of rfl ⟨rfl, rfl⟩ ⟨Nat.le_of_ble_eq_true rfl, Nat.le_of_ble_eq_true rfl⟩ (hR.recv M (tG_0 hA) rfl) rfl hl.1 rfl (lv_room (Nat.le_of_ble_eq_true rfl)) dX2_ordersOf_66 ⟨(by first | exact Nat.le_refl _ | exact Nat.zero_le _ | (dsimp only; omega)), (by first | exact Nat.le_refl _ | exact Nat.zero_le _ | (dsimp only; omega))⟩) hS (fun r66 G66 H locs hp66 hR hS => ?_)
          obtain ⟨rfl, rfl⟩ := hp66
          refine lv_iload_n hx hb dX2_ordersOf_69 rfl (lv_at hl 4 rfl) ?_
          refine lv_icmp_ne (tgt := 82) hx hb dX2_ordersOf_70 (by decide) (fun c70 => ?_) (fun c70 => ?_)
          · refine lv_iconst (v := (0 : Int32)) hx hb dX2_ordersOf_82 (by decide) ?_
            refine lv_iadd hx hb dX2_ordersOf_83 ?_
            refine g_topi (nI (fCnt (fOw F N p9 what) 0 (j + 1))) (by have h := @cnt_s (fOw F N p9 what) j; rw [show fOw F N p9 what j = false from by unfold fOw; rw [hq, decide_eq_false c70]; rfl] at h; exact h) ?_
            refine lv_istore_n (lv' := [(3, _), (5, _), (4, _), (2, _), (1, _), (0, _)]) hx hb dX2_ordersOf_84 rfl hl (by decide) rfl (fun ls hl => ?_)
            refine g_inc (lv' := [(4, _), (3, _), (5, _), (2, _), (1, _), (0, _)]) M dX2_ordersOf_85 hl (k := 2) rfl (by decide) rfl (fun ls hl => ?_)
            refine lv_goto (tgt := 5) hx hb dX2_ordersOf_88 (by decide) ?_
            exact ih5 (N - (j + 1)) _ _ _ _ _ _ (by omega) ⟨j + 1, lv_sub hl [0, 1, 3, 4, 5] rfl, by omega, rfl, rfl, rfl, rfl⟩ hR hS
          · refine lv_iload hx hb dX2_ordersOf_73 (lv_at hl 0 rfl) ?_
            refine lv_if_eq (tgt := 82) hx hb dX2_ordersOf_75 (by decide) (fun c75 => ?_) (fun c75 => absurd c75 (not_not_intro rfl))
            refine lv_iconst (v := (0 : Int32)) hx hb dX2_ordersOf_82 (by decide) ?_
            refine lv_iadd hx hb dX2_ordersOf_83 ?_
            refine g_topi (nI (fCnt (fOw F N p9 what) 0 (j + 1))) (by have h := @cnt_s (fOw F N p9 what) j; rw [show fOw F N p9 what j = false from by unfold fOw; rw [hq, decide_eq_true c70]; rfl] at h; exact h) ?_
            refine lv_istore_n (lv' := [(3, _), (5, _), (4, _), (2, _), (1, _), (0, _)]) hx hb dX2_ordersOf_84 rfl hl (by decide) rfl (fun ls hl => ?_)
            refine g_inc (lv' := [(4, _), (3, _), (5, _), (2, _), (1, _), (0, _)]) M dX2_ordersOf_85 hl (k := 2) rfl (by decide) rfl (fun ls hl => ?_)
            refine lv_goto (tgt := 5) hx hb dX2_ordersOf_88 (by decide) ?_
            exact ih5 (N - (j + 1)) _ _ _ _ _ _ (by omega) ⟨j + 1, lv_sub hl [0, 1, 3, 4, 5] rfl, by omega, rfl, rfl, rfl, rfl⟩ hR hS
        · refine lv_goto (tgt := 54) hx hb dX2_ordersOf_35 (by decide) ?_
          refine lv_iconst (v := (1 : Int32)) hx hb dX2_ordersOf_54 (by decide) ?_
          refine lv_goto (tgt := 59) hx hb dX2_ordersOf_55 (by decide) ?_
          have hq : (decide (what = 1) || if what = 2 then fHg F j else decide (oI (fRul F (fo F j 1) N) = nI j)) = true := by rw [decide_eq_false c18, if_pos c23, bI_n0.mp c32]; rfl
          refine lv_istore (lv' := [(5, _), (4, _), (3, _), (2, _), (1, _), (0, _)]) hx hb dX2_ordersOf_59 hl (by decide) rfl (fun ls hl => ?_)
          refine lv_iload_n hx hb dX2_ordersOf_61 rfl (lv_at hl 2 rfl) ?_
          refine lv_aload_n hx hb dX2_ordersOf_62 rfl (lv_at hl 5 rfl) ?_
          refine lv_iload hx hb dX2_ordersOf_63 (lv_at hl 1 rfl) ?_
          refine lv_iconst (v := (0 : Int32)) hx hb dX2_ordersOf_65 (by decide) ?_
          refine g_ki (g_V (As := [_, _]) M hR hS (c_X2_of l K hA (by first | assumption | rfl) j 0 (by omega)) (lw_V q1153 q1155 qs27 q73 q1156) 2 md_X2_of rfl ⟨rfl, rfl⟩ ⟨Nat.le_of_ble_eq_true rfl, Nat.le_of_ble_eq_true rfl⟩ (hR.recv M (tG_0 hA) rfl) rfl hl.1 rfl (lv_room (Nat.le_of_ble_eq_true rfl)) dX2_ordersOf_66 ⟨(by first | exact Nat.le_refl _ | exact Nat.zero_le _ | (dsimp only; omega)), (by first | exact Nat.le_refl _ | exact Nat.zero_le _ | (dsimp only; omega))⟩) hS (fun r66 G66 H locs hp66 hR hS => ?_)
          obtain ⟨rfl, rfl⟩ := hp66
          refine lv_iload_n hx hb dX2_ordersOf_69 rfl (lv_at hl 4 rfl) ?_
          refine lv_icmp_ne (tgt := 82) hx hb dX2_ordersOf_70 (by decide) (fun c70 => ?_) (fun c70 => ?_)
          · refine lv_iconst (v := (0 : Int32)) hx hb dX2_ordersOf_82 (by decide) ?_
            refine lv_iadd hx hb dX2_ordersOf_83 ?_
            refine g_topi (nI (fCnt (fOw F N p9 what) 0 (j + 1))) (by have h := @cnt_s (fOw F N p9 what) j; rw [show fOw F N p9 what j = false from by unfold fOw; rw [hq, decide_eq_false c70]; rfl] at h; exact h) ?_
            refine lv_istore_n (lv' := [(3, _), (5, _), (4, _), (2, _), (1, _), (0, _)]) hx hb dX2_ordersOf_84 rfl hl (by decide) rfl (fun ls hl => ?_)
            refine g_inc (lv' := [(4, _), (3, _), (5, _), (2, _), (1, _), (0, _)]) M dX2_ordersOf_85 hl (k := 2) rfl (by decide) rfl (fun ls hl => ?_)
            refine lv_goto (tgt := 5) hx hb dX2_ordersOf_88 (by decide) ?_
            exact ih5 (N - (j + 1)) _ _ _ _ _ _ (by omega) ⟨j + 1, lv_sub hl [0, 1, 3, 4, 5] rfl, by omega, rfl, rfl, rfl, rfl⟩ hR hS
          · refine lv_iload hx hb dX2_ordersOf_73 (lv_at hl 0 rfl) ?_
            refine lv_if_eq (tgt := 82) hx hb dX2_ordersOf_75 (by decide) (fun c75 => absurd c75 (by decide)) (fun c75 => ?_)
            refine lv_iconst (v := (1 : Int32)) hx hb dX2_ordersOf_78 (by decide) ?_
            refine lv_goto (tgt := 83) hx hb dX2_ordersOf_79 (by decide) ?_
            refine lv_iadd hx hb dX2_ordersOf_83 ?_
            refine g_topi (nI (fCnt (fOw F N p9 what) 0 (j + 1))) (by have h := @cnt_s (fOw F N p9 what) j; rw [show fOw F N p9 what j = true from by unfold fOw; rw [hq, decide_eq_true c70]; rfl] at h; exact h) ?_
            refine lv_istore_n (lv' := [(3, _), (5, _), (4, _), (2, _), (1, _), (0, _)]) hx hb dX2_ordersOf_84 rfl hl (by decide) rfl (fun ls hl => ?_)
            refine g_inc (lv' := [(4, _), (3, _), (5, _), (2, _), (1, _), (0, _)]) M dX2_ordersOf_85 hl (k := 2) rfl (by decide) rfl (fun ls hl => ?_)
            refine lv_goto (tgt := 5) hx hb dX2_ordersOf_88 (by decide) ?_
            exact ih5 (N - (j + 1)) _ _ _ _ _ _ (by omega) ⟨j + 1, lv_sub hl [0, 1, 3, 4, 5] rfl, by omega, rfl, rfl, rfl, rfl⟩ hR hS
