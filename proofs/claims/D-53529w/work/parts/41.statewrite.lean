/-! THE COMPONENT: a state changed (rows printed by tools/p41.py) -/
theorem md_X1_takeOff : gMd yX1_takeOff 2 := by
  unfold gMd
  decide +kernel
set_option maxHeartbeats 4000000 in
set_option maxRecDepth 100000 in
theorem c_X1_takeOff (l : Launch) (K : gK) {G : gG} {a ra lo lt : Nat} {x y : Nat → Nat} {F E : Nat → Int32} {N : Nat} (h : sR K G a ra lo lt x y F E N) {o w : Nat} (ho : o < N) (hh : fHg F o = true) (hw : fo F o 1 = nI w) (hw16 : w < 16) {e9 : Int32} (h12 : e9 = 1 ∨ e9 = 2) : Met l yX1_takeOff (ws_ yX1_takeOff cX1_takeOff 3 (Option.none : Option Jvm.ClassFile.FieldType)) (gRm 4 0 0 124) (gPre K [.ref a, .ref (x o), .int e9] G) (gQv K (fun G1 => sR K G1 a ra lo lt x y (upd F (12 + 7 * o + 6) 0) (eN E o e9) N ∧ ∀ b, b ≠ x o → b ≠ y w → G1 b = G b)) 0 0 (gA K) := by
  refine g_met (by decide) (Nat.le_of_ble_eq_true rfl) ?_
  intro p e s m below meth c M hr hlk hnm hR ls hl
  have M : gM K p s m _ c cX1_takeOff 3 RX1 := M
  have hx := M.hx
  have hb := M.hb
  have hS : va_S (gA K) s.heap s.heap [] := va_S.rf
  have hl : lv_has ls 3 [(0, .ref a), (1, .ref (x o)), (2, .int e9)] := hl
  have hob := h.obj
  have hst := h.stacks
  have hox := h.orders
  have hor := h.order o ho
  obtain ⟨n1, n2, n3, n4, n5⟩ := h.x_ne ho
  have h40 := h.n40
  have hq : fHf F (nI w) o = true := by unfold fHf; rw [hh, hw, decide_eq_true rfl]; rfl
  have hat := stk_at hq ho
  obtain ⟨hpl, hpe⟩ := List.getElem?_eq_some_iff.mp hat
  have hlen := stk_len F (nI w) N
  have hcl := fCnt_le (fHf F (nI w)) 0 N
  have hk7 : ∀ o' k, k < 7 → fo (upd F (12 + 7 * o + 6) 0) o' k = if o' = o ∧ k = 6 then 0 else fo F o' k := fun o' k hk => fo_up (by decide) hk
  have hk6 : ∀ k, k < 6 → fo (upd F (12 + 7 * o + 6) 0) o k = fo F o k := fun k hk => (hk7 o k (by omega)).trans (if_neg (fun z => by omega))
  have hE2 : (eN E o e9) o = e9 := if_pos rfl
  obtain ⟨ci9, fs9, he9, h34⟩ := oE_ob (F := (upd F (12 + 7 * o + 6) 0)) (E := (eN E o e9)) (o := o)
  refine lv_aload_n hx hb dX1_takeOff_0 rfl (lv_at hl 1 rfl) ?_
  refine lv_iload_n hx hb dX1_takeOff_1 rfl (lv_at hl 2 rfl) ?_
  refine o_put5 M hR hS hor q348 (F' := (upd F (12 + 7 * o + 6) 0)) (E' := (eN E o e9)) (fun k hk => hk6 k (by omega)) (hk6 5 (by decide)) hE2 dX1_takeOff_2 (fun H locs hR hS => ?_)
  have hob : oU G (x o) (.inl (oE (upd F (12 + 7 * o + 6) 0) (eN E o e9) o)) a = _ := (oU_n n1.symm).trans h.obj
  have hst : oU G (x o) (.inl (oE (upd F (12 + 7 * o + 6) 0) (eN E o e9) o)) lt = _ := (oU_n n4.symm).trans h.stacks
  have hor : oU G (x o) (.inl (oE (upd F (12 + 7 * o + 6) 0) (eN E o e9) o)) (x o) = some (.inl (oE (upd F (12 + 7 * o + 6) 0) (eN E o e9) o)) := oU_s
  have hsw : oU G (x o) (.inl (oE (upd F (12 + 7 * o + 6) 0) (eN E o e9) o)) (y w) = _ := (oU_n (n5 w hw16).symm).trans (h.stack w hw16)
  refine lv_aload_n hx hb dX1_takeOff_5 rfl (lv_at hl 0 rfl) ?_
  refine g_get (C := RX1) (T := TX1) (N := 6) M hR hob rfl in_X1 2 (by decide) q193 (fun x h => h) rfl dX1_takeOff_6 ?_
  refine lv_aload_n hx hb dX1_takeOff_9 rfl (lv_at hl 1 rfl) ?_
  refine o_get2 M hR hor q335 dX1_takeOff_10 ?_
  refine g_topi (nI w) ((hk6 1 (by decide)).trans hw) ?_
  refine g_k5q (g_F (As := [_]) (ci := 8) M hR hS (c_getX l K hst w hw16) rfl (by decide) q285 q288 q290 q64 q292 1 md_i_J2_get ⟨rfl, rfl⟩ ⟨Nat.le_of_ble_eq_true rfl, Nat.le_of_ble_eq_true rfl⟩ (hR.recvL M hst) rfl hl.1 rfl (lv_room (Nat.le_of_ble_eq_true rfl)) dX1_takeOff_13 ⟨(by first | exact Nat.le_refl _ | exact Nat.zero_le _ | (dsimp only; omega)), (by first | exact Nat.le_refl _ | exact Nat.zero_le _ | (dsimp only; omega))⟩) hS (fun r13 G13 H locs hp13 hR hS => ?_)
  obtain ⟨rfl, e13⟩ := hp13
  rw [e13] at hR
  refine l_cast M hR hsw q385 dX1_takeOff_18 ?_
  refine lv_aload_n hx hb dX1_takeOff_21 rfl (lv_at hl 1 rfl) ?_
  refine g_k5i (g_F (As := [_]) (ci := 8) M hR hS (c_J2_remove_2 l K hsw (fun b hb => (h.obS b hb).oEU) (hor.trans (congrArg (fun z => some (Sum.inl z)) he9)) h34 (fCnt (fHf F (nI w)) 0 o) (by rw [List.length_map]; exact hpl) (by rw [List.getElem_map, hpe]) (fun i hi e => by rw [List.getElem_map] at e; have hi2 : i < (fStk F (nI w) N).length := (by omega); have e2 := h.xi _ _ (stk_lt (List.getElem_mem hi2)).1 ho e; have e3 := stk_inj hi2 hpl (e2.trans hpe.symm); omega) (by rw [List.length_map]; omega)) rfl (by decide) q508 q511 q513 q64 q515 1 md_i_J2_remove_2 ⟨rfl, rfl⟩ ⟨Nat.le_of_ble_eq_true rfl, Nat.le_of_ble_eq_true rfl⟩ (hR.recvL M hsw) rfl hl.1 rfl (lv_room (Nat.le_of_ble_eq_true rfl)) dX1_takeOff_22 ⟨(by first | exact Nat.le_refl _ | exact Nat.zero_le _ | (dsimp only; omega)), (by first | exact Nat.le_refl _ | exact Nat.zero_le _ | (dsimp only; omega))⟩) hS (fun r22 G22 H locs hp22 hR hS => ?_)
  obtain ⟨rfl, e22⟩ := hp22
  rw [e22] at hR
  refine lv_pop hx hb dX1_takeOff_27 rfl ?_
  rw [er_map] at hR
  have hfin := h.off (F' := (upd F (12 + 7 * o + 6) 0)) (E' := (eN E o e9)) ho hh hw hw16 (by rw [hE2]; exact h12) (fun o' ho' => if_neg ho') (up_lo (by omega)) (up_lo (by omega)) (up_lo (by omega)) (fun p hp => up_lo (by omega)) hk7
  exact g_vret M hr hlk hR hS (by omega) (by omega) dX1_takeOff_28 (⟨hfin, fun b b1 b2 => (oU_n b2).trans (oU_n b1)⟩)

theorem md_X1_storm : gMd yX1_storm 1 := by
  unfold gMd
  decide +kernel
set_option maxHeartbeats 4000000 in
set_option maxRecDepth 100000 in
theorem c_X1_storm (l : Launch) (K : gK) {G : gG} {a ra lo lt : Nat} {x y : Nat → Nat} {F E : Nat → Int32} {N : Nat} (h : sR K G a ra lo lt x y F E N) (f : UInt32) (hf : fN f (10 * fU)) {P : Nat} (ok : fOk F P N)  : Met l yX1_storm (ws_ yX1_storm cX1_storm 5 (Option.some Jvm.ClassFile.FieldType.int)) (gRm 5 0 0 146) (gPre K [.ref a, .float f] G) (gQi K (fun r G1 => r = nI (fSn F N f) ∧ ∃ E9, sR K G1 a ra lo lt x y (fSt F N f) E9 N ∧ (∀ o, E9 o = if o < N ∧ fFl (fS1 F N f N) o = true then 1 else E o) ∧ ∀ b, ¬ sA a ra lo lt x y N b → G1 b = G b)) 0 0 (gA K) := by
  refine g_met (by decide) (Nat.le_of_ble_eq_true rfl) ?_
  intro p e s m below meth c M hr hlk hnm hR ls hl
  have M : gM K p s m _ c cX1_storm 5 RX1 := M
  have hx := M.hx
  have hb := M.hb
  have hS : va_S (gA K) s.heap s.heap [] := va_S.rf
  have hl : lv_has ls 5 [(0, .ref a), (1, .float f)] := hl
  have h40 := h.n40
  refine lv_iconst (v := (0 : Int32)) hx hb dX1_storm_0 (by decide) ?_
  refine lv_istore_n (lv' := [(2, _), (0, _), (1, _)]) hx hb dX1_storm_1 rfl hl (by decide) rfl (fun ls hl => ?_)
  refine g_loop (pc := 2) (fun (k : Nat) (ls : Array Slot) (G9 : gG) (cells slots : Nat) => ∃ j, lv_has ls 5 [(2, .int (nI j)), (1, .float f), (0, .ref a)] ∧ j ≤ N ∧ k = N - j ∧ sR K G9 a ra lo lt x y (fS1 F N f j) E N ∧ (∀ b, ¬ sA a ra lo lt x y N b → G9 b = G b) ∧ cells = 0 ∧ slots = 0) ?_ (N) ⟨0, lv_sub hl [0, 2, 1] rfl, by omega, rfl, (by unfold fS1; rw [fW_0]; exact h), fun _ _ => rfl, rfl, rfl⟩ hR hS
  intro k ls G9 H locs cells slots hI hR hS ih2
  obtain ⟨j, hl, hj, rfl, h9, hfr, rfl, rfl⟩ := hI
  refine lv_iload_n hx hb dX1_storm_2 rfl (lv_at hl 0 rfl) ?_
  refine lv_aload_n hx hb dX1_storm_3 rfl (lv_at hl 2 rfl) ?_
  refine g_get (C := RX1) (T := TX1) (N := 6) M hR h9.obj rfl in_X1 1 (by decide) q191 (fun x h => h) rfl dX1_storm_4 ?_
  refine g_k5i (g_F (As := []) (ci := 8) M hR hS (c_sizeX l K h9.orders) rfl (by decide) q276 q279 q281 q64 q283 0 md_i_J2_size ⟨rfl, rfl⟩ ⟨Nat.le_of_ble_eq_true rfl, Nat.le_of_ble_eq_true rfl⟩ (hR.recvL M h9.orders) rfl hl.1 rfl (lv_room (Nat.le_of_ble_eq_true rfl)) dX1_storm_7 ⟨(by first | exact Nat.le_refl _ | exact Nat.zero_le _ | (dsimp only; omega)), (by first | exact Nat.le_refl _ | exact Nat.zero_le _ | (dsimp only; omega))⟩) hS (fun r7 G7 H locs hp7 hR hS => ?_)
  obtain ⟨rfl, e7⟩ := hp7
  rw [e7] at hR
  refine lv_icmp_ge (tgt := 61) hx hb dX1_storm_12 (by decide) (fun c12 => ?_) (fun c12 => ?_)
  · have h9N : j = N := eq_of_ge c12 hj (by omega)
    rw [h9N] at h9
    refine lv_iconst (v := (0 : Int32)) hx hb dX1_storm_61 (by decide) ?_
    refine lv_istore_n (lv' := [(2, _), (1, _), (0, _)]) hx hb dX1_storm_62 rfl hl (by decide) rfl (fun ls hl => ?_)
    refine lv_iconst (v := (0 : Int32)) hx hb dX1_storm_63 (by decide) ?_
    refine lv_istore_n (lv' := [(3, _), (2, _), (1, _), (0, _)]) hx hb dX1_storm_64 rfl hl (by decide) rfl (fun ls hl => ?_)
    refine g_loop (pc := 65) (fun (k : Nat) (ls : Array Slot) (G9 : gG) (cells slots : Nat) => ∃ j E9, lv_has ls 5 [(3, .int (nI j)), (2, .int (nI (fCnt (fFl (fS1 F N f N)) 0 j))), (1, .float f), (0, .ref a)] ∧ j ≤ N ∧ k = N - j ∧ sR K G9 a ra lo lt x y (fS2 (fS1 F N f N) j) E9 N ∧ (∀ o, E9 o = if o < j ∧ fFl (fS1 F N f N) o = true then 1 else E o) ∧ (∀ b, ¬ sA a ra lo lt x y N b → G9 b = G b) ∧ cells = 0 ∧ slots = 0) ?_ (N) ⟨0, E, lv_sub hl [0, 1, 2, 3] rfl, by omega, rfl, (by unfold fS2; rw [fW_0]; exact h9), (fun o => (if_neg (fun z => absurd z.1 (Nat.not_lt_zero _))).symm), hfr, rfl, rfl⟩ hR hS
    intro k ls G9 H locs cells slots hI hR hS ih65
    obtain ⟨j, E9, hl, hj, rfl, h9, hE9, hfr, rfl, rfl⟩ := hI
    refine lv_iload_n hx hb dX1_storm_65 rfl (lv_at hl 0 rfl) ?_
    refine lv_aload_n hx hb dX1_storm_66 rfl (lv_at hl 3 rfl) ?_
    refine g_get (C := RX1) (T := TX1) (N := 6) M hR h9.obj rfl in_X1 1 (by decide) q191 (fun x h => h) rfl dX1_storm_67 ?_
    refine g_k5i (g_F (As := []) (ci := 8) M hR hS (c_sizeX l K h9.orders) rfl (by decide) q276 q279 q281 q64 q283 0 md_i_J2_size ⟨rfl, rfl⟩ ⟨Nat.le_of_ble_eq_true rfl, Nat.le_of_ble_eq_true rfl⟩ (hR.recvL M h9.orders) rfl hl.1 rfl (lv_room (Nat.le_of_ble_eq_true rfl)) dX1_storm_70 ⟨(by first | exact Nat.le_refl _ | exact Nat.zero_le _ | (dsimp only; omega)), (by first | exact Nat.le_refl _ | exact Nat.zero_le _ | (dsimp only; omega))⟩) hS (fun r70 G70 H locs hp70 hR hS => ?_)
    obtain ⟨rfl, e70⟩ := hp70
    rw [e70] at hR
    refine lv_icmp_ge (tgt := 130) hx hb dX1_storm_75 (by decide) (fun c75 => ?_) (fun c75 => ?_)
    · have h9N : j = N := eq_of_ge c75 hj (by omega)
      rw [h9N] at h9 hE9 hl
      refine lv_aload_n hx hb dX1_storm_130 rfl (lv_at hl 3 rfl) ?_
      refine lv_dup hx hb dX1_storm_131 rfl ?_
      refine g_get (C := RX1) (T := TX1) (N := 6) M hR h9.obj rfl in_X1 5 (by decide) q199 (fun x h => h) rfl dX1_storm_132 ?_
      refine lv_iconst (v := (1 : Int32)) hx hb dX1_storm_135 (by decide) ?_
      refine lv_iadd hx hb dX1_storm_136 ?_
      refine g_put (C := RX1) (T := TX1) (N := 6) M hR hS h9.obj rfl in_X1 tyX1 tyX1_ok nmX1 5 (by decide) q199 (fun x h => h) rfl rfl rfl (Nat.le_of_ble_eq_true rfl) dX1_storm_137 (fun H locs hR hS => ?_)
      have hfin := h9.scal (F' := fSt F N f) (fun p hp => st_lo (by omega) (by omega) (by omega)) (fun o' k _ hk => st_fo hk)
      rw [st_lo (i := 5) (by decide) (by decide) (by decide), st_lo (i := 0) (by decide) (by decide) (by decide), st_4] at hfin
      refine lv_iload_n hx hb dX1_storm_140 rfl (lv_at hl 1 rfl) ?_
      exact g_iret M hr hlk hR hS (by omega) (by omega) dX1_storm_141 (⟨rfl, E9, hfin, hE9, fun b hb => (oU_n (fun z => hb (Or.inl z))).trans (hfr b hb)⟩)
    · have hjN : j < N := lt_of_not c75 (by omega)
      have hEj : E9 j = E j := (hE9 j).trans (if_neg (fun z => by omega))
      refine lv_aload_n hx hb dX1_storm_78 rfl (lv_at hl 3 rfl) ?_
      refine g_get (C := RX1) (T := TX1) (N := 6) M hR h9.obj rfl in_X1 1 (by decide) q191 (fun x h => h) rfl dX1_storm_79 ?_
      refine lv_iload_n hx hb dX1_storm_82 rfl (lv_at hl 0 rfl) ?_
      refine g_k5q (g_F (As := [_]) (ci := 8) M hR hS (c_getX l K h9.orders j hjN) rfl (by decide) q285 q288 q290 q64 q292 1 md_i_J2_get ⟨rfl, rfl⟩ ⟨Nat.le_of_ble_eq_true rfl, Nat.le_of_ble_eq_true rfl⟩ (hR.recvL M h9.orders) rfl hl.1 rfl (lv_room (Nat.le_of_ble_eq_true rfl)) dX1_storm_83 ⟨(by first | exact Nat.le_refl _ | exact Nat.zero_le _ | (dsimp only; omega)), (by first | exact Nat.le_refl _ | exact Nat.zero_le _ | (dsimp only; omega))⟩) hS (fun r83 G83 H locs hp83 hR hS => ?_)
      obtain ⟨rfl, e83⟩ := hp83
      rw [e83] at hR
      refine o_cast M hR (h9.order j hjN) q303 dX1_storm_88 ?_
      refine lv_astore (lv' := [(4, _), (3, _), (2, _), (1, _), (0, _)]) hx hb dX1_storm_91 hl (by decide) rfl (fun ls hl => ?_)
      refine lv_aload hx hb dX1_storm_93 (lv_at hl 0 rfl) ?_
      refine o_hangs M hR hS (h9.order j hjN)  q552 hl.1 dX1_storm_95 (Nat.le_of_ble_eq_true rfl) (Nat.le_of_ble_eq_true rfl) ⟨(by first | exact Nat.le_refl _ | exact Nat.zero_le _ | (dsimp only; omega)), (by first | exact Nat.le_refl _ | exact Nat.zero_le _ | (dsimp only; omega))⟩ (Nat.le_of_ble_eq_true rfl) (fun H locs hR hS => ?_)
      refine lv_if_eq (tgt := 124) hx hb dX1_storm_98 (by decide) (fun c98 => ?_) (fun c98 => ?_)
      · have hq := fl_h (F := (fS1 F N f N)) (o := j) (by have h0 := of_decide_eq_false (bI_0.mp c98); have h1 := fun z => h0 ((h9.fate j hjN).1.mpr z); rw [s2_hg] at h1; simpa using h1)
        have h9 : sR K G9 a ra lo lt x y (fS2 (fS1 F N f N) (j + 1)) E9 N := by unfold fS2; rw [fW_n hq]; exact h9
        have hE9 := efN hE9 hq
        rw [← cnt_0 hq] at hl
        refine g_inc (lv' := [(3, _), (4, _), (2, _), (1, _), (0, _)]) M dX1_storm_124 hl (k := 1) rfl (by decide) rfl (fun ls hl => ?_)
        refine lv_goto (tgt := 65) hx hb dX1_storm_127 (by decide) ?_
        exact ih65 (N - (j + 1)) _ _ _ _ _ _ (by omega) ⟨j + 1, _, lv_sub hl [0, 2, 3, 4] rfl, by omega, rfl, h9, hE9, hfr, rfl, rfl⟩ hR hS
      · have hE0 := of_decide_eq_true (bI_n0.mp c98)
        have hh9 := (h9.fate j hjN).1.mp hE0
        have hh := hh9
        rw [s2_hg] at hh
        refine lv_aload hx hb dX1_storm_101 (lv_at hl 0 rfl) ?_
        refine o_get4 M hR (h9.order j hjN) q345 dX1_storm_103 ?_
        refine g_topf (fSg (fS1 F N f N) j) (by unfold fSg; rw [s2_fo (by decide) (Or.inl (by decide))]) ?_
        refine lv_fconst0 hx hb dX1_storm_106 ?_
        refine lv_fcmp hx hb dX1_storm_107 ?_
        refine lv_if_le (tgt := 114) hx hb dX1_storm_108 (by decide) (fun c108 => ?_) (fun c108 => ?_)
        · have hq := fl_t hh (Int32.not_lt.mpr c108)
          obtain ⟨w, hw16, hw⟩ := h9.word j hjN
          have hw9 := hw
          refine lv_aload_n hx hb dX1_storm_114 rfl (lv_at hl 4 rfl) ?_
          refine lv_aload hx hb dX1_storm_115 (lv_at hl 0 rfl) ?_
          refine lv_iconst (v := (1 : Int32)) hx hb dX1_storm_117 (by decide) ?_
          refine g_kv (g_V (As := [_, _]) M hR hS (c_X1_takeOff l K h9 hjN hh9 hw9 hw16 (Or.inl rfl)) (lw_V q570 q504 q505 q61 q506) 2 md_X1_takeOff rfl ⟨rfl, rfl⟩ ⟨Nat.le_of_ble_eq_true rfl, Nat.le_of_ble_eq_true rfl⟩ (hR.recv M h9.obj rfl) rfl hl.1 rfl (lv_room (Nat.le_of_ble_eq_true rfl)) dX1_storm_118 ⟨(by first | exact Nat.le_refl _ | exact Nat.zero_le _ | (dsimp only; omega)), (by first | exact Nat.le_refl _ | exact Nat.zero_le _ | (dsimp only; omega))⟩) hS (fun G118 H locs hp118 hR hS => ?_)
          obtain ⟨h118, hf118⟩ := hp118
          refine g_inc (lv' := [(2, _), (4, _), (3, _), (1, _), (0, _)]) M dX1_storm_121 hl (k := 2) rfl (by decide) rfl (fun ls hl => ?_)
          have h9 : sR K G118 a ra lo lt x y (fS2 (fS1 F N f N) (j + 1)) (eN E9 j 1) N := by unfold fS2; rw [fW_t (by decide) hq]; exact h118
          have hE9 := efT hE9 hq
          have hfr := frC hfr (fun b hb => hf118 b (fun z => hb (Or.inr (Or.inr (Or.inr (Or.inr (Or.inr ⟨j, hjN, z⟩)))))) (fun z => hb (Or.inr (Or.inr (Or.inr (Or.inr (Or.inl ⟨w, hw16, z⟩)))))))
          rw [← cnt_1 hq] at hl
          refine g_inc (lv' := [(3, _), (2, _), (4, _), (1, _), (0, _)]) M dX1_storm_124 hl (k := 2) rfl (by decide) rfl (fun ls hl => ?_)
          refine lv_goto (tgt := 65) hx hb dX1_storm_127 (by decide) ?_
          exact ih65 (N - (j + 1)) _ _ _ _ _ _ (by omega) ⟨j + 1, _, lv_sub hl [0, 1, 3, 4] rfl, by omega, rfl, h9, hE9, hfr, rfl, rfl⟩ hR hS
        · refine lv_goto (tgt := 124) hx hb dX1_storm_111 (by decide) ?_
          have hq := fl_f (Int32.not_le.mp c108)
          have h9 : sR K G9 a ra lo lt x y (fS2 (fS1 F N f N) (j + 1)) E9 N := by unfold fS2; rw [fW_n hq]; exact h9
          have hE9 := efN hE9 hq
          rw [← cnt_0 hq] at hl
          refine g_inc (lv' := [(3, _), (4, _), (2, _), (1, _), (0, _)]) M dX1_storm_124 hl (k := 1) rfl (by decide) rfl (fun ls hl => ?_)
          refine lv_goto (tgt := 65) hx hb dX1_storm_127 (by decide) ?_
          exact ih65 (N - (j + 1)) _ _ _ _ _ _ (by omega) ⟨j + 1, _, lv_sub hl [0, 2, 3, 4] rfl, by omega, rfl, h9, hE9, hfr, rfl, rfl⟩ hR hS
  · have hjN : j < N := lt_of_not c12 (by omega)
    refine lv_aload_n hx hb dX1_storm_15 rfl (lv_at hl 2 rfl) ?_
    refine g_get (C := RX1) (T := TX1) (N := 6) M hR h9.obj rfl in_X1 1 (by decide) q191 (fun x h => h) rfl dX1_storm_16 ?_
    refine lv_iload_n hx hb dX1_storm_19 rfl (lv_at hl 0 rfl) ?_
    refine g_k5q (g_F (As := [_]) (ci := 8) M hR hS (c_getX l K h9.orders j hjN) rfl (by decide) q285 q288 q290 q64 q292 1 md_i_J2_get ⟨rfl, rfl⟩ ⟨Nat.le_of_ble_eq_true rfl, Nat.le_of_ble_eq_true rfl⟩ (hR.recvL M h9.orders) rfl hl.1 rfl (lv_room (Nat.le_of_ble_eq_true rfl)) dX1_storm_20 ⟨(by first | exact Nat.le_refl _ | exact Nat.zero_le _ | (dsimp only; omega)), (by first | exact Nat.le_refl _ | exact Nat.zero_le _ | (dsimp only; omega))⟩) hS (fun r20 G20 H locs hp20 hR hS => ?_)
    obtain ⟨rfl, e20⟩ := hp20
    rw [e20] at hR
    refine o_cast M hR (h9.order j hjN) q303 dX1_storm_25 ?_
    refine lv_astore_n (lv' := [(3, _), (2, _), (1, _), (0, _)]) hx hb dX1_storm_28 rfl hl (by decide) rfl (fun ls hl => ?_)
    refine lv_aload_n hx hb dX1_storm_29 rfl (lv_at hl 0 rfl) ?_
    refine o_hangs M hR hS (h9.order j hjN)  q552 hl.1 dX1_storm_30 (Nat.le_of_ble_eq_true rfl) (Nat.le_of_ble_eq_true rfl) ⟨(by first | exact Nat.le_refl _ | exact Nat.zero_le _ | (dsimp only; omega)), (by first | exact Nat.le_refl _ | exact Nat.zero_le _ | (dsimp only; omega))⟩ (Nat.le_of_ble_eq_true rfl) (fun H locs hR hS => ?_)
    refine lv_if_eq (tgt := 55) hx hb dX1_storm_33 (by decide) (fun c33 => ?_) (fun c33 => ?_)
    · have hq : fHg F j = false := by have h0 := of_decide_eq_false (bI_0.mp c33); have h1 := fun z => h0 ((h9.fate j hjN).1.mpr z); rw [s1_hg] at h1; simpa using h1
      have h9 : sR K G9 a ra lo lt x y (fS1 F N f (j + 1)) E N := by unfold fS1; rw [fW_n hq]; exact h9
      refine g_inc (lv' := [(2, _), (3, _), (1, _), (0, _)]) M dX1_storm_55 hl (k := 1) rfl (by decide) rfl (fun ls hl => ?_)
      refine lv_goto (tgt := 2) hx hb dX1_storm_58 (by decide) ?_
      exact ih2 (N - (j + 1)) _ _ _ _ _ _ (by omega) ⟨j + 1, lv_sub hl [0, 2, 3] rfl, by omega, rfl, h9, hfr, rfl, rfl⟩ hR hS
    · have hE0 := of_decide_eq_true (bI_n0.mp c33)
      have hh9 := (h9.fate j hjN).1.mp hE0
      have hh := hh9
      rw [s1_hg] at hh
      obtain ⟨w, hw16, hw⟩ := h.word j hjN
      have hw9 : fo (fS1 F N f j) j 1 = nI w := (s1_fo (by decide) (Or.inl (by decide))).trans hw
      have hq : fHf F (nI w) j = true := by unfold fHf; rw [hh, hw, decide_eq_true rfl]; rfl
      obtain ⟨n1, n2, n3⟩ := blw_ok ok hf hjN hh
      refine lv_aload_n hx hb dX1_storm_36 rfl (lv_at hl 0 rfl) ?_
      refine lv_aload_n hx hb dX1_storm_37 rfl (lv_at hl 0 rfl) ?_
      refine o_get4 M hR (h9.order j hjN) q345 dX1_storm_38 ?_
      refine g_topf (fSg F j) (by unfold fSg; rw [s1_fo (by decide) (Or.inr (Nat.le_refl _))]) ?_
      refine lv_fload_n hx hb dX1_storm_41 rfl (lv_at hl 2 rfl) ?_
      refine lv_iconst (v := (1 : Int32)) hx hb dX1_storm_42 (by decide) ?_
      refine lv_aload_n hx hb dX1_storm_43 rfl (lv_at hl 3 rfl) ?_
      refine lv_aload_n hx hb dX1_storm_44 rfl (lv_at hl 0 rfl) ?_
      refine g_ki (g_V (As := [_]) M hR hS (c_X1_over l K h9 hjN hh9 hw9 hw16) (lw_V q553 q554 q555 q61 q556) 1 md_X1_over rfl ⟨rfl, rfl⟩ ⟨Nat.le_of_ble_eq_true rfl, Nat.le_of_ble_eq_true rfl⟩ (hR.recv M h9.obj rfl) rfl hl.1 rfl (lv_room (Nat.le_of_ble_eq_true rfl)) dX1_storm_45 ⟨(by first | exact Nat.le_refl _ | exact Nat.zero_le _ | (dsimp only; omega)), (by first | exact Nat.le_refl _ | exact Nat.zero_le _ | (dsimp only; omega))⟩) hS (fun r45 G45 H locs hp45 hR hS => ?_)
      obtain ⟨rfl, e45⟩ := hp45
      rw [e45] at hR
      refine lv_iadd hx hb dX1_storm_48 ?_
      refine g_topi (nI (fCnt (fHf F (fo F j 1)) j (N - j))) (by rw [stk_len, s1_hf, hw]; exact over_1 hjN hq rfl) ?_
      refine lv_i2f hx hb dX1_storm_49 ?_
      refine lv_fdiv hx hb dX1_storm_50 n1 ?_
      refine lv_fsub hx hb dX1_storm_51 n2 ?_
      refine o_put4 M hR hS (h9.order j hjN) q345 (F' := fS1 F N f (j + 1)) (E' := E) (fun k hk => s1_s (by omega) (fun z => by omega)) (s1_at hh) rfl dX1_storm_52 (fun H locs hR hS => ?_)
      have hfr := frU (z := .inl (oE (fS1 F N f (j + 1)) E j)) hfr (Or.inr (Or.inr (Or.inr (Or.inr (Or.inr ⟨j, hjN, rfl⟩)))))
      have h9 := h9.str (F' := fS1 F N f (j + 1)) hjN ((fW_lo (by decide)).trans (fW_lo (by decide)).symm) ((fW_lo (by decide)).trans (fW_lo (by decide)).symm) ((fW_lo (by decide)).trans (fW_lo (by decide)).symm) (fun p hp => (fW_lo (by omega)).trans (fW_lo (by omega)).symm) (fun o' k _ hk hn => s1_s hk hn)
      refine g_inc (lv' := [(2, _), (3, _), (1, _), (0, _)]) M dX1_storm_55 hl (k := 1) rfl (by decide) rfl (fun ls hl => ?_)
      refine lv_goto (tgt := 2) hx hb dX1_storm_58 (by decide) ?_
      exact ih2 (N - (j + 1)) _ _ _ _ _ _ (by omega) ⟨j + 1, lv_sub hl [0, 2, 3] rfl, by omega, rfl, h9, hfr, rfl, rfl⟩ hR hS

theorem md_X1_hang : gMd yX1_hang 1 := by
  unfold gMd
  decide +kernel
set_option maxHeartbeats 4000000 in
set_option maxRecDepth 100000 in
theorem c_X1_hang (l : Launch) (K : gK) {G : gG} {a ra lo lt : Nat} {x y : Nat → Nat} {F E : Nat → Int32} {N : Nat} (h : sR K G a ra lo lt x y F E N) (hN : N < 40) {F2 E2 : Nat → Int32} {q w : Nat} (hw : fo F2 N 1 = nI w) (hw16 : w < 16) (hp : ∃ p, p < 6 ∧ fo F2 N 0 = nI p) (hq : G q = some (.inl (oE F2 E2 N))) (hqx : ∀ o, o < N → x o ≠ q) (h6 : fHg F2 N = true) (hE : E2 N = 0) (hEo : ∀ o9, o9 < N → E2 o9 = E o9) (h0 : F2 0 = F 0) (h4 : F2 4 = F 4) (h5 : F2 5 = F 5) (hr9 : ∀ p, p < 6 → F2 (6 + p) = F (6 + p)) (hk : ∀ o9 k, o9 < N → k < 7 → fo F2 o9 k = fo F o9 k) (h1 : fo F2 N 2 = -5 → fo F2 N 3 = 1065353216) : Met l yX1_hang (ws_ yX1_hang cX1_hang 2 (Option.some Jvm.ClassFile.FieldType.int)) (gRm 7 2 200 191) (gPre K [.ref a, .ref q] G) (gQi K (fun r G1 => r = nI N ∧ sR K G1 a ra lo lt (va_upN x N q) y F2 E2 (N + 1) ∧ ∀ b, b ≠ lo → b ≠ y w → G1 b = G b)) 2 200 (gA K) := by
  refine g_met (by decide) (Nat.le_of_ble_eq_true rfl) ?_
  intro p e s m below meth c M hr hlk hnm hR ls hl
  have M : gM K p s m _ c cX1_hang 2 RX1 := M
  have hx := M.hx
  have hb := M.hb
  have hS : va_S (gA K) s.heap s.heap [] := va_S.rf
  have hl : lv_has ls 2 [(0, .ref a), (1, .ref q)] := hl
  have hob := h.obj
  have hst := h.stacks
  have hox := h.orders
  have hor := hq
  obtain ⟨k1, k2, k3, -, -⟩ := h.a_ne
  obtain ⟨m1, m2, m3, m4⟩ := h.y_ne hw16
  have hlol := h.lol
  have hlen := stk_len F (nI w) N
  have hcl := fCnt_le (fHf F (nI w)) 0 N
  obtain ⟨ci9, fs9, he9, h34⟩ := oE_ob (F := F2) (E := E2) (o := N)
  have hqo : gOb G q := Or.inl ⟨ci9, fs9, by omega, by omega, hq.trans (congrArg (fun z => some (Sum.inl z)) he9)⟩
  have hqlo : q ≠ lo := fun z => by rw [z, h.orders] at hq; cases hq
  have hqy : q ≠ y w := fun z => by rw [z, h.stack w hw16] at hq; cases hq
  refine lv_aload_n hx hb dX1_hang_0 rfl (lv_at hl 0 rfl) ?_
  refine g_get (C := RX1) (T := TX1) (N := 6) M hR hob rfl in_X1 1 (by decide) q191 (fun x h => h) rfl dX1_hang_1 ?_
  refine lv_aload_n hx hb dX1_hang_4 rfl (lv_at hl 1 rfl) ?_
  refine g_k5i (g_F (As := [_]) (ci := 8) M hR hS (c_J2_add l K hox h.obX hqo (by simp; omega)) rfl (by decide) q127 q131 q133 q64 q135 1 md_i_J2_add ⟨rfl, rfl⟩ ⟨Nat.le_of_ble_eq_true rfl, Nat.le_of_ble_eq_true rfl⟩ (hR.recvL M hox) rfl hl.1 rfl (lv_room (Nat.le_of_ble_eq_true rfl)) dX1_hang_5 ⟨(by first | exact Nat.le_refl _ | exact Nat.zero_le _ | (dsimp only; omega)), (by first | exact Nat.le_refl _ | exact Nat.zero_le _ | (dsimp only; omega))⟩) hS (fun r5 G5 H locs hp5 hR hS => ?_)
  obtain ⟨rfl, e5⟩ := hp5
  rw [e5] at hR
  have hob : oU G lo (.inr (.inl ((List.range N).map x ++ [q]))) a = _ := (oU_n k2.symm).trans h.obj
  have hst : oU G lo (.inr (.inl ((List.range N).map x ++ [q]))) lt = _ := (oU_n hlol.symm).trans h.stacks
  have hor : oU G lo (.inr (.inl ((List.range N).map x ++ [q]))) q = _ := (oU_n hqlo).trans hq
  have hsw : oU G lo (.inr (.inl ((List.range N).map x ++ [q]))) (y w) = _ := (oU_n m3).trans (h.stack w hw16)
  refine lv_pop hx hb dX1_hang_10 rfl ?_
  refine lv_aload_n hx hb dX1_hang_11 rfl (lv_at hl 0 rfl) ?_
  refine g_get (C := RX1) (T := TX1) (N := 6) M hR hob rfl in_X1 2 (by decide) q193 (fun x h => h) rfl dX1_hang_12 ?_
  refine lv_aload_n hx hb dX1_hang_15 rfl (lv_at hl 1 rfl) ?_
  refine o_get2 M hR hor q335 dX1_hang_16 ?_
  refine g_topi (nI w) hw ?_
  refine g_k5q (g_F (As := [_]) (ci := 8) M hR hS (c_getX l K hst w hw16) rfl (by decide) q285 q288 q290 q64 q292 1 md_i_J2_get ⟨rfl, rfl⟩ ⟨Nat.le_of_ble_eq_true rfl, Nat.le_of_ble_eq_true rfl⟩ (hR.recvL M hst) rfl hl.1 rfl (lv_room (Nat.le_of_ble_eq_true rfl)) dX1_hang_19 ⟨(by first | exact Nat.le_refl _ | exact Nat.zero_le _ | (dsimp only; omega)), (by first | exact Nat.le_refl _ | exact Nat.zero_le _ | (dsimp only; omega))⟩) hS (fun r19 G19 H locs hp19 hR hS => ?_)
  obtain ⟨rfl, e19⟩ := hp19
  rw [e19] at hR
  refine l_cast M hR hsw q385 dX1_hang_24 ?_
  refine lv_aload_n hx hb dX1_hang_27 rfl (lv_at hl 1 rfl) ?_
  refine g_k5i (g_F (As := [_]) (ci := 8) M hR hS (c_J2_add l K hsw (fun b hb => (h.obS b hb).lstU) hqo.lstU (by simp; omega)) rfl (by decide) q127 q131 q133 q64 q135 1 md_i_J2_add ⟨rfl, rfl⟩ ⟨Nat.le_of_ble_eq_true rfl, Nat.le_of_ble_eq_true rfl⟩ (hR.recvL M hsw) rfl hl.1 rfl (lv_room (Nat.le_of_ble_eq_true rfl)) dX1_hang_28 ⟨(by first | exact Nat.le_refl _ | exact Nat.zero_le _ | (dsimp only; omega)), (by first | exact Nat.le_refl _ | exact Nat.zero_le _ | (dsimp only; omega))⟩) hS (fun r28 G28 H locs hp28 hR hS => ?_)
  obtain ⟨rfl, e28⟩ := hp28
  rw [e28] at hR
  have hor : oU (oU G lo (.inr (.inl ((List.range N).map x ++ [q])))) (y w) (.inr (.inl ((fStk F (nI w) N).map x ++ [q]))) q = _ := (oU_n hqy).trans hor
  refine lv_pop hx hb dX1_hang_33 rfl ?_
  refine lv_aload_n hx hb dX1_hang_34 rfl (lv_at hl 1 rfl) ?_
  refine o_get0 M hR hor q323 dX1_hang_35 ?_
  exact g_iret M hr hlk hR hS (by omega) (by omega) dX1_hang_38 (⟨rfl, h.hang hN hw hw16 hp hq hqx h6 hE hEo h0 h4 h5 hr9 hk h1, fun b b1 b2 => (oU_n b2).trans (oU_n b1)⟩)

theorem md_X1_nail : gMd yX1_nail 4 := by
  unfold gMd
  decide +kernel
set_option maxHeartbeats 4000000 in
set_option maxRecDepth 100000 in
theorem c_X1_nail (l : Launch) (K : gK) {G : gG} {a ra lo lt : Nat} {x y : Nat → Nat} {F E : Nat → Int32} {N : Nat} (h : sR K G a ra lo lt x y F E N) {P : Nat} (ok : fOk F P N) (p9 w num str : Int32) : Met l yX1_nail (ws_ yX1_nail cX1_nail 5 (Option.some Jvm.ClassFile.FieldType.int)) (gRm 8 3 206 212) (gPre K [.ref a, .int p9, .int w, .int num, .int str] G) (gQi K (fun r G1 => r = fNr F N p9 w (-5) 1065353216 num str ∧ if fNr F N p9 w (-5) 1065353216 num str < 0 then G1 = G else ∃ q, G q = none ∧ sR K G1 a ra lo lt (va_upN x N q) y (fNl F N p9 w (-5) 1065353216 num str) (eN E N 0) (N + 1) ∧ ∀ b, G b ≠ none → ¬ sA a ra lo lt x y N b → G1 b = G b)) 3 206 (gA K) := by
  refine g_met (by decide) (Nat.le_of_ble_eq_true rfl) ?_
  intro p e s m below meth c M hr hlk hnm hR ls hl
  have M : gM K p s m _ c cX1_nail 5 RX1 := M
  have hx := M.hx
  have hb := M.hb
  have hS : va_S (gA K) s.heap s.heap [] := va_S.rf
  have hl : lv_has ls 5 [(0, .ref a), (1, .int p9), (2, .int w), (3, .int num), (4, .int str)] := hl
  have hob := h.obj
  have hst := h.stacks
  have hox := h.orders
  have h40 := h.n40
  have hN := ok.hN
  have hP := ok.hP
  refine lv_aload_n hx hb dX1_nail_0 rfl (lv_at hl 0 rfl) ?_
  refine lv_iload_n hx hb dX1_nail_1 rfl (lv_at hl 1 rfl) ?_
  refine g_ki (g_V (As := [_]) M hR hS (c_X1_isPerson l K h _) (lw_V q444 q413 q414 q61 q415) 1 md_X1_isPerson rfl ⟨rfl, rfl⟩ ⟨Nat.le_of_ble_eq_true rfl, Nat.le_of_ble_eq_true rfl⟩ (hR.recv M hob rfl) rfl hl.1 rfl (lv_room (Nat.le_of_ble_eq_true rfl)) dX1_nail_2 ⟨(by first | exact Nat.le_refl _ | exact Nat.zero_le _ | (dsimp only; omega)), (by first | exact Nat.le_refl _ | exact Nat.zero_le _ | (dsimp only; omega))⟩) hS (fun r2 G2 H locs hp2 hR hS => ?_)
  obtain ⟨rfl, e2⟩ := hp2
  rw [e2] at hR
  refine lv_if_eq (tgt := 15) hx hb dX1_nail_5 (by decide) (fun c5 => ?_) (fun c5 => ?_)
  · have hz : fNr F N p9 w (-5) 1065353216 num str = -1 := if_pos (by simp [bI_0.mp c5])
    refine lv_iconst (v := ((-1) : Int32)) hx hb dX1_nail_15 (by decide) ?_
    exact g_iret M hr hlk hR hS (by omega) (by omega) dX1_nail_16 (⟨hz.symm, by rw [if_pos (by rw [hz]; decide)]⟩)
  · refine lv_iload_n hx hb dX1_nail_8 rfl (lv_at hl 2 rfl) ?_
    refine g_ki (g_SN (As := [_]) M hR hS (c_X0_isWord l K _) q447 q60 q445 q446 1 md_X0_isWord ⟨rfl, rfl⟩ ⟨Nat.le_of_ble_eq_true rfl, Nat.le_of_ble_eq_true rfl⟩ rfl hl.1 rfl (lv_room (Nat.le_of_ble_eq_true rfl)) dX1_nail_9 ⟨(by first | exact Nat.le_refl _ | exact Nat.zero_le _ | (dsimp only; omega)), (by first | exact Nat.le_refl _ | exact Nat.zero_le _ | (dsimp only; omega))⟩) hS (fun r9 G9 H locs hp9 hR hS => ?_)
    obtain ⟨rfl, e0⟩ := hp9
    rw [e0] at hR
    refine lv_if_ne (tgt := 17) hx hb dX1_nail_12 (by decide) (fun c12 => ?_) (fun c12 => ?_)
    · have hu : ¬ (!(fIn p9 0 (F 0 - 1) && fIn w 0 15 && (decide ((-5 : Int32) = -5) || fIn (-5) 0 15))) = true := by simp [bI_n0.mp c5, bI_n0.mp c12]
      refine lv_iload_n hx hb dX1_nail_17 rfl (lv_at hl 3 rfl) ?_
      refine g_ki (g_SN (As := [_]) M hR hS (c_X0_isNumber l K _) q450 q60 q448 q449 1 md_X0_isNumber ⟨rfl, rfl⟩ ⟨Nat.le_of_ble_eq_true rfl, Nat.le_of_ble_eq_true rfl⟩ rfl hl.1 rfl (lv_room (Nat.le_of_ble_eq_true rfl)) dX1_nail_18 ⟨(by first | exact Nat.le_refl _ | exact Nat.zero_le _ | (dsimp only; omega)), (by first | exact Nat.le_refl _ | exact Nat.zero_le _ | (dsimp only; omega))⟩) hS (fun r18 G18 H locs hp18 hR hS => ?_)
      obtain ⟨rfl, e0⟩ := hp18
      rw [e0] at hR
      refine lv_if_eq (tgt := 32) hx hb dX1_nail_21 (by decide) (fun c21 => ?_) (fun c21 => ?_)
      · have hz : fNr F N p9 w (-5) 1065353216 num str = -2 := (if_neg hu).trans (if_pos (by simp [bI_0.mp c21]))
        refine lv_bipush (v := ((-2) : Int32)) hx hb dX1_nail_32 (by decide) ?_
        exact g_iret M hr hlk hR hS (by omega) (by omega) dX1_nail_34 (⟨hz.symm, by rw [if_pos (by rw [hz]; decide)]⟩)
      · refine lv_iload hx hb dX1_nail_24 (lv_at hl 4 rfl) ?_
        refine g_ki (g_SN (As := [_]) M hR hS (c_X0_isStrength l K _) q455 q60 q453 q454 1 md_X0_isStrength ⟨rfl, rfl⟩ ⟨Nat.le_of_ble_eq_true rfl, Nat.le_of_ble_eq_true rfl⟩ rfl hl.1 rfl (lv_room (Nat.le_of_ble_eq_true rfl)) dX1_nail_26 ⟨(by first | exact Nat.le_refl _ | exact Nat.zero_le _ | (dsimp only; omega)), (by first | exact Nat.le_refl _ | exact Nat.zero_le _ | (dsimp only; omega))⟩) hS (fun r26 G26 H locs hp26 hR hS => ?_)
        obtain ⟨rfl, e0⟩ := hp26
        rw [e0] at hR
        refine lv_if_ne (tgt := 35) hx hb dX1_nail_29 (by decide) (fun c29 => ?_) (fun c29 => ?_)
        · have hf1 : fFrom 1065353216 3296329728 1148846080 = true := by decide +kernel
          have hw5 : ¬ (-5 : Int32) = w := fun z => by have h9 := bI_n0.mp c12; rw [← z] at h9; exact absurd h9 (by decide)
          have hu2 : ¬ (!(fFrom 1065353216 3296329728 1148846080 && fFrom num 3296329728 1148846080 && fFrom str 1036831949 1092616192 && !decide ((-5 : Int32) = w))) = true := by simp [bI_n0.mp c21, bI_n0.mp c29, hf1, hw5]
          refine lv_aload_n hx hb dX1_nail_35 rfl (lv_at hl 0 rfl) ?_
          refine g_ki (g_V (As := []) M hR hS (c_X1_isFull l K h ok.mark) (lw_V q458 q459 q460 q61 q461) 0 md_X1_isFull rfl ⟨rfl, rfl⟩ ⟨Nat.le_of_ble_eq_true rfl, Nat.le_of_ble_eq_true rfl⟩ (hR.recv M hob rfl) rfl hl.1 rfl (lv_room (Nat.le_of_ble_eq_true rfl)) dX1_nail_36 ⟨(by first | exact Nat.le_refl _ | exact Nat.zero_le _ | (dsimp only; omega)), (by first | exact Nat.le_refl _ | exact Nat.zero_le _ | (dsimp only; omega))⟩) hS (fun r36 G36 H locs hp36 hR hS => ?_)
          obtain ⟨rfl, e36⟩ := hp36
          rw [e36] at hR
          refine lv_if_eq (tgt := 45) hx hb dX1_nail_39 (by decide) (fun c39 => ?_) (fun c39 => ?_)
          · have hz : fNr F N p9 w (-5) 1065353216 num str = nI N := (if_neg hu).trans ((if_neg hu2).trans (if_neg (of_decide_eq_false (bI_0.mp c39))))
            have hneg : ¬ fNr F N p9 w (-5) 1065353216 num str < 0 := by rw [hz]; exact nI_pos (by omega)
            obtain ⟨ok2, hN40, -, ⟨p8, hp8, hpe⟩, ⟨w9, hw16, hwe⟩, hlke⟩ := ok.nail hneg
            have hP6 := ok.hP6
            refine lv_aload_n hx hb dX1_nail_45 rfl (lv_at hl 0 rfl) ?_
            refine g_new (ci := 3) (C := RX3) (T := TX3) (N := 6) (fs := [.int 0, .int 0, .int 0, .float 0, .float 0, .int 0]) M hR hS in_X3 tyX3 tyX3_ok q303 q375 q76 rfl (by intro j hj; rcases (by omega : j = 0 ∨ j = 1 ∨ j = 2 ∨ j = 3 ∨ j = 4 ∨ j = 5) with z | z | z | z | z | z <;> subst z <;> rfl) (by first | exact Nat.le_refl _ | exact Nat.zero_le _ | (dsimp only; omega)) (by first | exact Nat.le_refl _ | exact Nat.zero_le _ | (dsimp only; omega)) dX1_nail_46 (fun q46 H hn46 hR hS => ?_)
            have hob : oU G q46 (.inl (.inr (3, [.int 0, .int 0, .int 0, .float 0, .float 0, .int 0]))) a = _ := (oU_n (fun z => by rw [← z, h.obj] at hn46; cases hn46)).trans h.obj
            have hox : oU G q46 (.inl (.inr (3, [.int 0, .int 0, .int 0, .float 0, .float 0, .int 0]))) lo = _ := (oU_n (fun z => by rw [← z, h.orders] at hn46; cases hn46)).trans h.orders
            refine lv_dup hx hb dX1_nail_49 rfl ?_
            refine lv_aload_n hx hb dX1_nail_50 rfl (lv_at hl 0 rfl) ?_
            refine g_get (C := RX1) (T := TX1) (N := 6) M hR hob rfl in_X1 1 (by decide) q191 (fun x h => h) rfl dX1_nail_51 ?_
            refine g_k5i (g_F (As := []) (ci := 8) M hR hS (c_sizeX l K hox) rfl (by decide) q276 q279 q281 q64 q283 0 md_i_J2_size ⟨rfl, rfl⟩ ⟨Nat.le_of_ble_eq_true rfl, Nat.le_of_ble_eq_true rfl⟩ (hR.recvL M hox) rfl hl.1 rfl (lv_room (Nat.le_of_ble_eq_true rfl)) dX1_nail_54 ⟨(by first | exact Nat.le_refl _ | exact Nat.zero_le _ | (dsimp only; omega)), (by first | exact Nat.le_refl _ | exact Nat.zero_le _ | (dsimp only; omega))⟩) hS (fun r54 G54 H locs hp54 hR hS => ?_)
            obtain ⟨rfl, e54⟩ := hp54
            rw [e54] at hR
            refine lv_iload_n hx hb dX1_nail_59 rfl (lv_at hl 1 rfl) ?_
            refine lv_iload_n hx hb dX1_nail_60 rfl (lv_at hl 2 rfl) ?_
            refine lv_iload_n hx hb dX1_nail_61 rfl (lv_at hl 3 rfl) ?_
            refine g_i2f M hl.1 q466 q428 q427 q78 (sn_ok (fFrom_re (bI_n0.mp c21))) dX1_nail_62 (Nat.le_of_ble_eq_true rfl) (Nat.le_of_ble_eq_true rfl) ?_
            refine lv_iload hx hb dX1_nail_65 (lv_at hl 4 rfl) ?_
            refine g_i2f M hl.1 q466 q428 q427 q78 (sn_ok (fFrom_re (bI_n0.mp c29))) dX1_nail_67 (Nat.le_of_ble_eq_true rfl) (Nat.le_of_ble_eq_true rfl) ?_
            refine g_kv (g_I (As := [_, _, _, _, _]) M hR hS (c_X3_init l K _ _ _ _ _) q318 q76 q467 q317 5 md_X3_init rfl ⟨rfl, rfl⟩ ⟨Nat.le_of_ble_eq_true rfl, Nat.le_of_ble_eq_true rfl⟩ rfl hl.1 rfl (lv_room (Nat.le_of_ble_eq_true rfl)) dX1_nail_70 ⟨(by first | exact Nat.le_refl _ | exact Nat.zero_le _ | (dsimp only; omega)), (by first | exact Nat.le_refl _ | exact Nat.zero_le _ | (dsimp only; omega))⟩) hS (fun G70 H locs hp70 hR hS => ?_)
            rw [hp70] at hR
            have hnf : ∀ k, k < 7 → fo (fNl F N p9 w (-5) 1065353216 num str) N k = (if k = 0 then p9 else if k = 1 then w else if k = 2 then (-5) else if k = 3 then 1065353216 else if k = 4 then num else if k = 5 then str else 1) := fun k hk => (nl_fo hk).trans (if_pos rfl)
            have hqe : oU G q46 (.inl (.inr (3, [.int (nI N), .int p9, .int w, .float num.toUInt32, .float str.toUInt32, .int 0]))) q46 = some (.inl (oE (fNl F N p9 w (-5) 1065353216 num str) (eN E N 0) N)) := oU_s.trans (congrArg (fun z => some (Sum.inl z)) (by rw [oE_3 (hnf 2 (by decide))]; unfold oL fNm fSg; rw [hnf 0 (by decide), hnf 1 (by decide), hnf 4 (by decide), hnf 5 (by decide), show eN E N 0 N = 0 from if_pos rfl]; rfl))
            have hq6 : fHg (fNl F N p9 w (-5) 1065353216 num str) N = true := by unfold fHg; rw [hnf 6 (by decide)]; rfl
            have hob : oU G q46 (.inl (.inr (3, [.int (nI N), .int p9, .int w, .float num.toUInt32, .float str.toUInt32, .int 0]))) a = _ := (oU_n (fun z => by rw [← z, h.obj] at hn46; cases hn46)).trans h.obj
            have hox : oU G q46 (.inl (.inr (3, [.int (nI N), .int p9, .int w, .float num.toUInt32, .float str.toUInt32, .int 0]))) lo = _ := (oU_n (fun z => by rw [← z, h.orders] at hn46; cases hn46)).trans h.orders
            refine g_ki (g_V (As := [_]) M hR hS (c_X1_hang l K (h.fresh hn46 _) hN40 (F2 := (fNl F N p9 w (-5) 1065353216 num str)) (E2 := eN E N 0) (q := q46) (w := w9) ((hnf 1 (by decide)).trans hwe) hw16 ⟨p8, by omega, (hnf 0 (by decide)).trans hpe⟩ hqe (fun o ho e => h.some (Or.inr (Or.inr (Or.inr (Or.inr (Or.inr ⟨o, ho, e.symm⟩))))) hn46) hq6 (if_pos rfl) (fun o9 h9 => if_neg (by omega)) (nl_lo (by decide) (by decide)) (nl_lo (by decide) (by decide)) (nl_lo (by decide) (by decide)) (fun p hp => nl_lo (by omega) (by omega)) (fun o9 k h9 hk => (nl_fo hk).trans (if_neg (by omega))) (fun _ => hnf 3 (by decide))) (lw_V q468 q469 q470 q61 q471) 1 md_X1_hang rfl ⟨rfl, rfl⟩ ⟨Nat.le_of_ble_eq_true rfl, Nat.le_of_ble_eq_true rfl⟩ (hR.recv M hob rfl) rfl hl.1 rfl (lv_room (Nat.le_of_ble_eq_true rfl)) dX1_nail_73 ⟨(by first | exact Nat.le_refl _ | exact Nat.zero_le _ | (dsimp only; omega)), (by first | exact Nat.le_refl _ | exact Nat.zero_le _ | (dsimp only; omega))⟩) hS (fun r73 G73 H locs hp73 hR hS => ?_)
            obtain ⟨rfl, h73, hf73⟩ := hp73
            exact g_iret M hr hlk hR hS (by omega) (by omega) dX1_nail_76 (⟨hz.symm, by rw [if_neg (by rw [hz]; exact nI_pos (by omega))]; exact ⟨q46, hn46, h73, fun b b1 b2 => (hf73 b (fun z => b2 (Or.inr (Or.inr (Or.inl z)))) (fun z => b2 (Or.inr (Or.inr (Or.inr (Or.inr (Or.inl ⟨w9, hw16, z⟩))))))).trans (oU_n (fun z => b1 (z ▸ hn46)))⟩⟩)
          · have hz : fNr F N p9 w (-5) 1065353216 num str = -3 := (if_neg hu).trans ((if_neg hu2).trans (if_pos (of_decide_eq_true (bI_n0.mp c39))))
            refine lv_bipush (v := ((-3) : Int32)) hx hb dX1_nail_42 (by decide) ?_
            exact g_iret M hr hlk hR hS (by omega) (by omega) dX1_nail_44 (⟨hz.symm, by rw [if_pos (by rw [hz]; decide)]⟩)
        · have hz : fNr F N p9 w (-5) 1065353216 num str = -2 := (if_neg hu).trans (if_pos (by simp [bI_0.mp c29]))
          refine lv_bipush (v := ((-2) : Int32)) hx hb dX1_nail_32 (by decide) ?_
          exact g_iret M hr hlk hR hS (by omega) (by omega) dX1_nail_34 (⟨hz.symm, by rw [if_pos (by rw [hz]; decide)]⟩)
    · have hz : fNr F N p9 w (-5) 1065353216 num str = -1 := if_pos (by simp [bI_0.mp c12])
      refine lv_iconst (v := ((-1) : Int32)) hx hb dX1_nail_15 (by decide) ?_
      exact g_iret M hr hlk hR hS (by omega) (by omega) dX1_nail_16 (⟨hz.symm, by rw [if_pos (by rw [hz]; decide)]⟩)

theorem md_X1_nailLink : gMd yX1_nailLink 6 := by
  unfold gMd
  decide +kernel
set_option maxHeartbeats 4000000 in
set_option maxRecDepth 100000 in
theorem c_X1_nailLink (l : Launch) (K : gK) {G : gG} {a ra lo lt : Nat} {x y : Nat → Nat} {F E : Nat → Int32} {N : Nat} (h : sR K G a ra lo lt x y F E N) {P : Nat} (ok : fOk F P N) (p9 w other fac num str : Int32) : Met l yX1_nailLink (ws_ yX1_nailLink cX1_nailLink 7 (Option.some Jvm.ClassFile.FieldType.int)) (gRm 8 3 208 212) (gPre K [.ref a, .int p9, .int w, .int other, .int fac, .int num, .int str] G) (gQi K (fun r G1 => r = fNr F N p9 w (if fIn other 0 15 = true then other else 16) fac num str ∧ if fNr F N p9 w (if fIn other 0 15 = true then other else 16) fac num str < 0 then G1 = G else ∃ q, G q = none ∧ sR K G1 a ra lo lt (va_upN x N q) y (fNl F N p9 w (if fIn other 0 15 = true then other else 16) fac num str) (eN E N 0) (N + 1) ∧ ∀ b, G b ≠ none → ¬ sA a ra lo lt x y N b → G1 b = G b)) 3 208 (gA K) := by
  refine g_met (by decide) (Nat.le_of_ble_eq_true rfl) ?_
  intro p e s m below meth c M hr hlk hnm hR ls hl
  have M : gM K p s m _ c cX1_nailLink 7 RX1 := M
  have hx := M.hx
  have hb := M.hb
  have hS : va_S (gA K) s.heap s.heap [] := va_S.rf
  have hl : lv_has ls 7 [(0, .ref a), (1, .int p9), (2, .int w), (3, .int other), (4, .int fac), (5, .int num), (6, .int str)] := hl
  have hob := h.obj
  have hst := h.stacks
  have hox := h.orders
  have h40 := h.n40
  have hN := ok.hN
  have hP := ok.hP
  refine lv_aload_n hx hb dX1_nailLink_0 rfl (lv_at hl 0 rfl) ?_
  refine lv_iload_n hx hb dX1_nailLink_1 rfl (lv_at hl 1 rfl) ?_
  refine g_ki (g_V (As := [_]) M hR hS (c_X1_isPerson l K h _) (lw_V q444 q413 q414 q61 q415) 1 md_X1_isPerson rfl ⟨rfl, rfl⟩ ⟨Nat.le_of_ble_eq_true rfl, Nat.le_of_ble_eq_true rfl⟩ (hR.recv M hob rfl) rfl hl.1 rfl (lv_room (Nat.le_of_ble_eq_true rfl)) dX1_nailLink_2 ⟨(by first | exact Nat.le_refl _ | exact Nat.zero_le _ | (dsimp only; omega)), (by first | exact Nat.le_refl _ | exact Nat.zero_le _ | (dsimp only; omega))⟩) hS (fun r2 G2 H locs hp2 hR hS => ?_)
  obtain ⟨rfl, e2⟩ := hp2
  rw [e2] at hR
  refine lv_if_eq (tgt := 22) hx hb dX1_nailLink_5 (by decide) (fun c5 => ?_) (fun c5 => ?_)
  · have hz : fNr F N p9 w (if fIn other 0 15 = true then other else 16) fac num str = -1 := if_pos (by simp [bI_0.mp c5])
    refine lv_iconst (v := ((-1) : Int32)) hx hb dX1_nailLink_22 (by decide) ?_
    exact g_iret M hr hlk hR hS (by omega) (by omega) dX1_nailLink_23 (⟨hz.symm, by rw [if_pos (by rw [hz]; decide)]⟩)
  · refine lv_iload_n hx hb dX1_nailLink_8 rfl (lv_at hl 2 rfl) ?_
    refine g_ki (g_SN (As := [_]) M hR hS (c_X0_isWord l K _) q447 q60 q445 q446 1 md_X0_isWord ⟨rfl, rfl⟩ ⟨Nat.le_of_ble_eq_true rfl, Nat.le_of_ble_eq_true rfl⟩ rfl hl.1 rfl (lv_room (Nat.le_of_ble_eq_true rfl)) dX1_nailLink_9 ⟨(by first | exact Nat.le_refl _ | exact Nat.zero_le _ | (dsimp only; omega)), (by first | exact Nat.le_refl _ | exact Nat.zero_le _ | (dsimp only; omega))⟩) hS (fun r9 G9 H locs hp9 hR hS => ?_)
    obtain ⟨rfl, e0⟩ := hp9
    rw [e0] at hR
    refine lv_if_eq (tgt := 22) hx hb dX1_nailLink_12 (by decide) (fun c12 => ?_) (fun c12 => ?_)
    · have hz : fNr F N p9 w (if fIn other 0 15 = true then other else 16) fac num str = -1 := if_pos (by simp [bI_0.mp c12])
      refine lv_iconst (v := ((-1) : Int32)) hx hb dX1_nailLink_22 (by decide) ?_
      exact g_iret M hr hlk hR hS (by omega) (by omega) dX1_nailLink_23 (⟨hz.symm, by rw [if_pos (by rw [hz]; decide)]⟩)
    · refine lv_iload_n hx hb dX1_nailLink_15 rfl (lv_at hl 3 rfl) ?_
      refine g_ki (g_SN (As := [_]) M hR hS (c_X0_isWord l K _) q447 q60 q445 q446 1 md_X0_isWord ⟨rfl, rfl⟩ ⟨Nat.le_of_ble_eq_true rfl, Nat.le_of_ble_eq_true rfl⟩ rfl hl.1 rfl (lv_room (Nat.le_of_ble_eq_true rfl)) dX1_nailLink_16 ⟨(by first | exact Nat.le_refl _ | exact Nat.zero_le _ | (dsimp only; omega)), (by first | exact Nat.le_refl _ | exact Nat.zero_le _ | (dsimp only; omega))⟩) hS (fun r16 G16 H locs hp16 hR hS => ?_)
      obtain ⟨rfl, e0⟩ := hp16
      rw [e0] at hR
      refine lv_if_ne (tgt := 24) hx hb dX1_nailLink_19 (by decide) (fun c19 => ?_) (fun c19 => ?_)
      · have hlk9 : (if fIn other 0 15 = true then other else 16) = other := if_pos (bI_n0.mp c19)
        have hu : ¬ (!(fIn p9 0 (F 0 - 1) && fIn w 0 15 && (decide ((if fIn other 0 15 = true then other else 16) = -5) || fIn (if fIn other 0 15 = true then other else 16) 0 15))) = true := by rw [hlk9]; simp [bI_n0.mp c5, bI_n0.mp c12, bI_n0.mp c19]
        refine lv_iload hx hb dX1_nailLink_24 (lv_at hl 4 rfl) ?_
        refine g_ki (g_SN (As := [_]) M hR hS (c_X0_isNumber l K _) q450 q60 q448 q449 1 md_X0_isNumber ⟨rfl, rfl⟩ ⟨Nat.le_of_ble_eq_true rfl, Nat.le_of_ble_eq_true rfl⟩ rfl hl.1 rfl (lv_room (Nat.le_of_ble_eq_true rfl)) dX1_nailLink_26 ⟨(by first | exact Nat.le_refl _ | exact Nat.zero_le _ | (dsimp only; omega)), (by first | exact Nat.le_refl _ | exact Nat.zero_le _ | (dsimp only; omega))⟩) hS (fun r26 G26 H locs hp26 hR hS => ?_)
        obtain ⟨rfl, e0⟩ := hp26
        rw [e0] at hR
        refine lv_if_eq (tgt := 53) hx hb dX1_nailLink_29 (by decide) (fun c29 => ?_) (fun c29 => ?_)
        · have hz : fNr F N p9 w (if fIn other 0 15 = true then other else 16) fac num str = -2 := (if_neg hu).trans (if_pos (by rw [hlk9]; simp [bI_0.mp c29]))
          refine lv_bipush (v := ((-2) : Int32)) hx hb dX1_nailLink_53 (by decide) ?_
          exact g_iret M hr hlk hR hS (by omega) (by omega) dX1_nailLink_55 (⟨hz.symm, by rw [if_pos (by rw [hz]; decide)]⟩)
        · refine lv_iload hx hb dX1_nailLink_32 (lv_at hl 5 rfl) ?_
          refine g_ki (g_SN (As := [_]) M hR hS (c_X0_isNumber l K _) q450 q60 q448 q449 1 md_X0_isNumber ⟨rfl, rfl⟩ ⟨Nat.le_of_ble_eq_true rfl, Nat.le_of_ble_eq_true rfl⟩ rfl hl.1 rfl (lv_room (Nat.le_of_ble_eq_true rfl)) dX1_nailLink_34 ⟨(by first | exact Nat.le_refl _ | exact Nat.zero_le _ | (dsimp only; omega)), (by first | exact Nat.le_refl _ | exact Nat.zero_le _ | (dsimp only; omega))⟩) hS (fun r34 G34 H locs hp34 hR hS => ?_)
          obtain ⟨rfl, e0⟩ := hp34
          rw [e0] at hR
          refine lv_if_eq (tgt := 53) hx hb dX1_nailLink_37 (by decide) (fun c37 => ?_) (fun c37 => ?_)
          · have hz : fNr F N p9 w (if fIn other 0 15 = true then other else 16) fac num str = -2 := (if_neg hu).trans (if_pos (by rw [hlk9]; simp [bI_0.mp c37]))
            refine lv_bipush (v := ((-2) : Int32)) hx hb dX1_nailLink_53 (by decide) ?_
            exact g_iret M hr hlk hR hS (by omega) (by omega) dX1_nailLink_55 (⟨hz.symm, by rw [if_pos (by rw [hz]; decide)]⟩)
          · refine lv_iload hx hb dX1_nailLink_40 (lv_at hl 6 rfl) ?_
            refine g_ki (g_SN (As := [_]) M hR hS (c_X0_isStrength l K _) q455 q60 q453 q454 1 md_X0_isStrength ⟨rfl, rfl⟩ ⟨Nat.le_of_ble_eq_true rfl, Nat.le_of_ble_eq_true rfl⟩ rfl hl.1 rfl (lv_room (Nat.le_of_ble_eq_true rfl)) dX1_nailLink_42 ⟨(by first | exact Nat.le_refl _ | exact Nat.zero_le _ | (dsimp only; omega)), (by first | exact Nat.le_refl _ | exact Nat.zero_le _ | (dsimp only; omega))⟩) hS (fun r42 G42 H locs hp42 hR hS => ?_)
            obtain ⟨rfl, e0⟩ := hp42
            rw [e0] at hR
            refine lv_if_eq (tgt := 53) hx hb dX1_nailLink_45 (by decide) (fun c45 => ?_) (fun c45 => ?_)
            · have hz : fNr F N p9 w (if fIn other 0 15 = true then other else 16) fac num str = -2 := (if_neg hu).trans (if_pos (by rw [hlk9]; simp [bI_0.mp c45]))
              refine lv_bipush (v := ((-2) : Int32)) hx hb dX1_nailLink_53 (by decide) ?_
              exact g_iret M hr hlk hR hS (by omega) (by omega) dX1_nailLink_55 (⟨hz.symm, by rw [if_pos (by rw [hz]; decide)]⟩)
            · refine lv_iload_n hx hb dX1_nailLink_48 rfl (lv_at hl 2 rfl) ?_
              refine lv_iload_n hx hb dX1_nailLink_49 rfl (lv_at hl 3 rfl) ?_
              refine lv_icmp_ne (tgt := 56) hx hb dX1_nailLink_50 (by decide) (fun c50 => ?_) (fun c50 => ?_)
              · have c50b : ¬ other = w := fun z => c50 z.symm
                have hu2 : ¬ (!(fFrom fac 3296329728 1148846080 && fFrom num 3296329728 1148846080 && fFrom str 1036831949 1092616192 && !decide ((if fIn other 0 15 = true then other else 16) = w))) = true := by rw [hlk9]; simp [bI_n0.mp c29, bI_n0.mp c37, bI_n0.mp c45, c50b]
                refine lv_aload_n hx hb dX1_nailLink_56 rfl (lv_at hl 0 rfl) ?_
                refine g_ki (g_V (As := []) M hR hS (c_X1_isFull l K h ok.mark) (lw_V q458 q459 q460 q61 q461) 0 md_X1_isFull rfl ⟨rfl, rfl⟩ ⟨Nat.le_of_ble_eq_true rfl, Nat.le_of_ble_eq_true rfl⟩ (hR.recv M hob rfl) rfl hl.1 rfl (lv_room (Nat.le_of_ble_eq_true rfl)) dX1_nailLink_57 ⟨(by first | exact Nat.le_refl _ | exact Nat.zero_le _ | (dsimp only; omega)), (by first | exact Nat.le_refl _ | exact Nat.zero_le _ | (dsimp only; omega))⟩) hS (fun r57 G57 H locs hp57 hR hS => ?_)
                obtain ⟨rfl, e57⟩ := hp57
                rw [e57] at hR
                refine lv_if_eq (tgt := 66) hx hb dX1_nailLink_60 (by decide) (fun c60 => ?_) (fun c60 => ?_)
                · have hz : fNr F N p9 w (if fIn other 0 15 = true then other else 16) fac num str = nI N := (if_neg hu).trans ((if_neg hu2).trans (if_neg (of_decide_eq_false (bI_0.mp c60))))
                  have hneg : ¬ fNr F N p9 w (if fIn other 0 15 = true then other else 16) fac num str < 0 := by rw [hz]; exact nI_pos (by omega)
                  obtain ⟨ok2, hN40, -, ⟨p8, hp8, hpe⟩, ⟨w9, hw16, hwe⟩, hlke⟩ := ok.nail hneg
                  have hP6 := ok.hP6
                  have hl5 : ¬ other = -5 := fun z => by have h9 := bI_n0.mp c19; rw [z] at h9; exact absurd h9 (by decide)
                  refine lv_aload_n hx hb dX1_nailLink_66 rfl (lv_at hl 0 rfl) ?_
                  refine g_new (ci := 4) (C := RX4) (T := TX4) (N := 8) (fs := [.int 0, .int 0, .int 0, .float 0, .float 0, .int 0, .int 0, .float 0]) M hR hS in_X4 tyX4 tyX4_ok q480 q312 q77 rfl (by intro j hj; rcases (by omega : j = 0 ∨ j = 1 ∨ j = 2 ∨ j = 3 ∨ j = 4 ∨ j = 5 ∨ j = 6 ∨ j = 7) with z | z | z | z | z | z | z | z <;> subst z <;> rfl) (by first | exact Nat.le_refl _ | exact Nat.zero_le _ | (dsimp only; omega)) (by first | exact Nat.le_refl _ | exact Nat.zero_le _ | (dsimp only; omega)) dX1_nailLink_67 (fun q67 H hn67 hR hS => ?_)
                  have hob : oU G q67 (.inl (.inr (4, [.int 0, .int 0, .int 0, .float 0, .float 0, .int 0, .int 0, .float 0]))) a = _ := (oU_n (fun z => by rw [← z, h.obj] at hn67; cases hn67)).trans h.obj
                  have hox : oU G q67 (.inl (.inr (4, [.int 0, .int 0, .int 0, .float 0, .float 0, .int 0, .int 0, .float 0]))) lo = _ := (oU_n (fun z => by rw [← z, h.orders] at hn67; cases hn67)).trans h.orders
                  refine lv_dup hx hb dX1_nailLink_70 rfl ?_
                  refine lv_aload_n hx hb dX1_nailLink_71 rfl (lv_at hl 0 rfl) ?_
                  refine g_get (C := RX1) (T := TX1) (N := 6) M hR hob rfl in_X1 1 (by decide) q191 (fun x h => h) rfl dX1_nailLink_72 ?_
                  refine g_k5i (g_F (As := []) (ci := 8) M hR hS (c_sizeX l K hox) rfl (by decide) q276 q279 q281 q64 q283 0 md_i_J2_size ⟨rfl, rfl⟩ ⟨Nat.le_of_ble_eq_true rfl, Nat.le_of_ble_eq_true rfl⟩ (hR.recvL M hox) rfl hl.1 rfl (lv_room (Nat.le_of_ble_eq_true rfl)) dX1_nailLink_75 ⟨(by first | exact Nat.le_refl _ | exact Nat.zero_le _ | (dsimp only; omega)), (by first | exact Nat.le_refl _ | exact Nat.zero_le _ | (dsimp only; omega))⟩) hS (fun r75 G75 H locs hp75 hR hS => ?_)
                  obtain ⟨rfl, e75⟩ := hp75
                  rw [e75] at hR
                  refine lv_iload_n hx hb dX1_nailLink_80 rfl (lv_at hl 1 rfl) ?_
                  refine lv_iload_n hx hb dX1_nailLink_81 rfl (lv_at hl 2 rfl) ?_
                  refine lv_iload_n hx hb dX1_nailLink_82 rfl (lv_at hl 3 rfl) ?_
                  refine lv_iload hx hb dX1_nailLink_83 (lv_at hl 4 rfl) ?_
                  refine g_i2f M hl.1 q466 q428 q427 q78 (sn_ok (fFrom_re (bI_n0.mp c29))) dX1_nailLink_85 (Nat.le_of_ble_eq_true rfl) (Nat.le_of_ble_eq_true rfl) ?_
                  refine lv_iload hx hb dX1_nailLink_88 (lv_at hl 5 rfl) ?_
                  refine g_i2f M hl.1 q466 q428 q427 q78 (sn_ok (fFrom_re (bI_n0.mp c37))) dX1_nailLink_90 (Nat.le_of_ble_eq_true rfl) (Nat.le_of_ble_eq_true rfl) ?_
                  refine lv_iload hx hb dX1_nailLink_93 (lv_at hl 6 rfl) ?_
                  refine g_i2f M hl.1 q466 q428 q427 q78 (sn_ok (fFrom_re (bI_n0.mp c45))) dX1_nailLink_95 (Nat.le_of_ble_eq_true rfl) (Nat.le_of_ble_eq_true rfl) ?_
                  refine g_kv (g_I (As := [_, _, _, _, _, _, _]) M hR hS (c_X4_init l K _ _ _ _ _ _ _) q315 q77 q481 q314 7 md_X4_init rfl ⟨rfl, rfl⟩ ⟨Nat.le_of_ble_eq_true rfl, Nat.le_of_ble_eq_true rfl⟩ rfl hl.1 rfl (lv_room (Nat.le_of_ble_eq_true rfl)) dX1_nailLink_98 ⟨(by first | exact Nat.le_refl _ | exact Nat.zero_le _ | (dsimp only; omega)), (by first | exact Nat.le_refl _ | exact Nat.zero_le _ | (dsimp only; omega))⟩) hS (fun G98 H locs hp98 hR hS => ?_)
                  rw [hp98] at hR
                  have hnf : ∀ k, k < 7 → fo (fNl F N p9 w (if fIn other 0 15 = true then other else 16) fac num str) N k = (if k = 0 then p9 else if k = 1 then w else if k = 2 then (if fIn other 0 15 = true then other else 16) else if k = 3 then fac else if k = 4 then num else if k = 5 then str else 1) := fun k hk => (nl_fo hk).trans (if_pos rfl)
                  have hqe : oU G q67 (.inl (.inr (4, [.int (nI N), .int p9, .int w, .float num.toUInt32, .float str.toUInt32, .int 0, .int other, .float fac.toUInt32]))) q67 = some (.inl (oE (fNl F N p9 w (if fIn other 0 15 = true then other else 16) fac num str) (eN E N 0) N)) := oU_s.trans (congrArg (fun z => some (Sum.inl z)) (by rw [oE_4 (fun z => hl5 (hlk9.symm.trans ((hnf 2 (by decide)).symm.trans z)))]; unfold oL fNm fSg fFc; rw [hnf 0 (by decide), hnf 1 (by decide), hnf 4 (by decide), hnf 5 (by decide), hnf 2 (by decide), hnf 3 (by decide), hlk9, show eN E N 0 N = 0 from if_pos rfl]; rfl))
                  have hq6 : fHg (fNl F N p9 w (if fIn other 0 15 = true then other else 16) fac num str) N = true := by unfold fHg; rw [hnf 6 (by decide)]; rfl
                  have hob : oU G q67 (.inl (.inr (4, [.int (nI N), .int p9, .int w, .float num.toUInt32, .float str.toUInt32, .int 0, .int other, .float fac.toUInt32]))) a = _ := (oU_n (fun z => by rw [← z, h.obj] at hn67; cases hn67)).trans h.obj
                  have hox : oU G q67 (.inl (.inr (4, [.int (nI N), .int p9, .int w, .float num.toUInt32, .float str.toUInt32, .int 0, .int other, .float fac.toUInt32]))) lo = _ := (oU_n (fun z => by rw [← z, h.orders] at hn67; cases hn67)).trans h.orders
                  refine g_ki (g_V (As := [_]) M hR hS (c_X1_hang l K (h.fresh hn67 _) hN40 (F2 := (fNl F N p9 w (if fIn other 0 15 = true then other else 16) fac num str)) (E2 := eN E N 0) (q := q67) (w := w9) ((hnf 1 (by decide)).trans hwe) hw16 ⟨p8, by omega, (hnf 0 (by decide)).trans hpe⟩ hqe (fun o ho e => h.some (Or.inr (Or.inr (Or.inr (Or.inr (Or.inr ⟨o, ho, e.symm⟩))))) hn67) hq6 (if_pos rfl) (fun o9 h9 => if_neg (by omega)) (nl_lo (by decide) (by decide)) (nl_lo (by decide) (by decide)) (nl_lo (by decide) (by decide)) (fun p hp => nl_lo (by omega) (by omega)) (fun o9 k h9 hk => (nl_fo hk).trans (if_neg (by omega))) (fun z => absurd (hlk9.symm.trans ((hnf 2 (by decide)).symm.trans z)) hl5)) (lw_V q468 q469 q470 q61 q471) 1 md_X1_hang rfl ⟨rfl, rfl⟩ ⟨Nat.le_of_ble_eq_true rfl, Nat.le_of_ble_eq_true rfl⟩ (hR.recv M hob rfl) rfl hl.1 rfl (lv_room (Nat.le_of_ble_eq_true rfl)) dX1_nailLink_101 ⟨(by first | exact Nat.le_refl _ | exact Nat.zero_le _ | (dsimp only; omega)), (by first | exact Nat.le_refl _ | exact Nat.zero_le _ | (dsimp only; omega))⟩) hS (fun r101 G101 H locs hp101 hR hS => ?_)
                  obtain ⟨rfl, h101, hf101⟩ := hp101
                  exact g_iret M hr hlk hR hS (by omega) (by omega) dX1_nailLink_104 (⟨hz.symm, by rw [if_neg (by rw [hz]; exact nI_pos (by omega))]; exact ⟨q67, hn67, h101, fun b b1 b2 => (hf101 b (fun z => b2 (Or.inr (Or.inr (Or.inl z)))) (fun z => b2 (Or.inr (Or.inr (Or.inr (Or.inr (Or.inl ⟨w9, hw16, z⟩))))))).trans (oU_n (fun z => b1 (z ▸ hn67)))⟩⟩)
                · have hz : fNr F N p9 w (if fIn other 0 15 = true then other else 16) fac num str = -3 := (if_neg hu).trans ((if_neg hu2).trans (if_pos (of_decide_eq_true (bI_n0.mp c60))))
                  refine lv_bipush (v := ((-3) : Int32)) hx hb dX1_nailLink_63 (by decide) ?_
                  exact g_iret M hr hlk hR hS (by omega) (by omega) dX1_nailLink_65 (⟨hz.symm, by rw [if_pos (by rw [hz]; decide)]⟩)
              · have hz : fNr F N p9 w (if fIn other 0 15 = true then other else 16) fac num str = -2 := (if_neg hu).trans (if_pos (by rw [hlk9]; simp [c50]))
                refine lv_bipush (v := ((-2) : Int32)) hx hb dX1_nailLink_53 (by decide) ?_
                exact g_iret M hr hlk hR hS (by omega) (by omega) dX1_nailLink_55 (⟨hz.symm, by rw [if_pos (by rw [hz]; decide)]⟩)
      · have hz : fNr F N p9 w (if fIn other 0 15 = true then other else 16) fac num str = -1 := if_pos (by rw [if_neg (by rw [bI_0.mp c19]; decide)]; simp [show fIn 16 0 15 = false from rfl, show ¬ (16 : Int32) = -5 from by decide])
        refine lv_iconst (v := ((-1) : Int32)) hx hb dX1_nailLink_22 (by decide) ?_
        exact g_iret M hr hlk hR hS (by omega) (by omega) dX1_nailLink_23 (⟨hz.symm, by rw [if_pos (by rw [hz]; decide)]⟩)
