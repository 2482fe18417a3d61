/-! THE COMPONENT: what was told (rows printed by tools/p46.py) -/
/-- a word that is none of the link's words answers as any other such -/
theorem nk_eq {F : Nat → Int32} {N : Nat} {p w u f n s : Int32} (hu : ¬ u = -5) : fNr F N p w (if fIn u 0 15 = true then u else 16) f n s = fNr F N p w u f n s ∧ (¬ fNr F N p w u f n s < 0 → (if fIn u 0 15 = true then u else 16) = u) := by
  by_cases h : fIn u 0 15 = true
  · rw [if_pos h]; exact ⟨rfl, fun _ => rfl⟩
  · rw [if_neg h]
    have e : ∀ z : Int32, ¬ z = -5 → ¬ fIn z 0 15 = true → fNr F N p w z f n s = -1 := by
      intro z hz h
      unfold fNr
      exact if_pos (by simp [hz, h])
    rw [e 16 (by decide) (by decide), e u hu h]
    exact ⟨rfl, fun hn => absurd (by decide) hn⟩
theorem nk_if {F : Nat → Int32} {N : Nat} {p w u f n s : Int32} {C : Prop} (D : (Nat → Int32) → Prop) (hu : ¬ u = -5) (h : if fNr F N p w (if fIn u 0 15 = true then u else 16) f n s < 0 then C else D (fNl F N p w (if fIn u 0 15 = true then u else 16) f n s)) : if fNr F N p w u f n s < 0 then C else D (fNl F N p w u f n s) := by
  have hk := nk_eq (F := F) (N := N) (p := p) (w := w) (f := f) (n := n) (s := s) hu
  rw [hk.1] at h
  by_cases hz : fNr F N p w u f n s < 0
  · rw [if_pos hz] at h ⊢; exact h
  · rw [if_neg hz] at h ⊢; rw [hk.2 hz] at h; exact h
/-- what was told -/
def tdO (t : pQ) : gE := .inl (.inr (7, [.int t.1, .int t.2.1, .float (FP.fdiv (FP.i2f t.2.2.1) 1092616192), .float (FP.fdiv (FP.i2f t.2.2.2) 1092616192)]))
theorem bo_10 : pBo 10 = 1065353216 := by decide +kernel
theorem bo_0 : FP.fdiv (FP.i2f 0) 1092616192 = 0 := by decide +kernel
theorem bo_1 : FP.fdiv (FP.i2f 10) 1092616192 = 1065353216 := by decide +kernel
theorem md_X7_init : gMd yX7_init 4 := by
  unfold gMd
  decide +kernel
set_option maxHeartbeats 4000000 in
set_option maxRecDepth 100000 in
theorem c_X7_init (l : Launch) (K : gK) {G : gG} {a : Nat} (w u : Int32) (fa nu : UInt32) : Met l yX7_init (ws_ yX7_init cX7_init 5 (Option.none : Option Jvm.ClassFile.FieldType)) (gRm 1 0 0 60) (gPre K [.ref a, .int w, .int u, .float fa, .float nu] (oU G a (.inl (.inr (7, [.int 0, .int 0, .float 0, .float 0]))))) (gQv K (fun G1 => G1 = oU G a (.inl (.inr (7, [.int w, .int u, .float fa, .float nu]))))) 0 0 (gA K) := by
  refine g_met (by decide) (Nat.le_of_ble_eq_true rfl) ?_
  intro p e s m below meth c M hr hlk hnm hR ls hl
  have M : gM K p s m _ c cX7_init 5 RX7 := M
  have hx := M.hx
  have hb := M.hb
  have hS : va_S (gA K) s.heap s.heap [] := va_S.rf
  have hl : lv_has ls 5 [(0, .ref a), (1, .int w), (2, .int u), (3, .float fa), (4, .float nu)] := hl
  refine lv_aload_n hx hb dX7_init_0 rfl (lv_at hl 0 rfl) ?_
  refine g_obj M hl.1 q839 q91 q92 dX7_init_1 (Nat.le_of_ble_eq_true rfl) (Nat.le_of_ble_eq_true rfl) ?_
  refine lv_aload_n hx hb dX7_init_4 rfl (lv_at hl 0 rfl) ?_
  refine lv_iload_n hx hb dX7_init_5 rfl (lv_at hl 1 rfl) ?_
  refine g_putF (C := RX7) (T := TX7) (N := 4) M hR hS oU_s rfl in_X7 tyX7 tyX7_ok nmX7 0 (by decide) q840 (fun x h => h) rfl hnm rfl rfl rfl (Nat.le_of_ble_eq_true rfl) dX7_init_6 (fun H locs hR hS => ?_)
  refine lv_aload_n hx hb dX7_init_9 rfl (lv_at hl 0 rfl) ?_
  refine lv_iload_n hx hb dX7_init_10 rfl (lv_at hl 2 rfl) ?_
  refine g_putF (C := RX7) (T := TX7) (N := 4) M hR hS oU_s rfl in_X7 tyX7 tyX7_ok nmX7 1 (by decide) q841 (fun x h => h) rfl hnm rfl rfl rfl (Nat.le_of_ble_eq_true rfl) dX7_init_11 (fun H locs hR hS => ?_)
  refine lv_aload_n hx hb dX7_init_14 rfl (lv_at hl 0 rfl) ?_
  refine lv_fload_n hx hb dX7_init_15 rfl (lv_at hl 3 rfl) ?_
  refine g_putF (C := RX7) (T := TX7) (N := 4) M hR hS oU_s rfl in_X7 tyX7 tyX7_ok nmX7 2 (by decide) q842 (fun x h => h) rfl hnm rfl rfl rfl (Nat.le_of_ble_eq_true rfl) dX7_init_16 (fun H locs hR hS => ?_)
  refine lv_aload_n hx hb dX7_init_19 rfl (lv_at hl 0 rfl) ?_
  refine lv_fload hx hb dX7_init_20 (lv_at hl 4 rfl) ?_
  refine g_putF (C := RX7) (T := TX7) (N := 4) M hR hS oU_s rfl in_X7 tyX7 tyX7_ok nmX7 3 (by decide) q843 (fun x h => h) rfl hnm rfl rfl rfl (Nat.le_of_ble_eq_true rfl) dX7_init_22 (fun H locs hR hS => ?_)
  repeat rw [oU_uu] at hR
  exact g_vret M hr hlk hR hS (by omega) (by omega) dX7_init_25 (rfl)

theorem md_X7_nail : gMd yX7_nail 3 := by
  unfold gMd
  decide +kernel
set_option maxHeartbeats 4000000 in
set_option maxRecDepth 100000 in
theorem c_X7_nail (l : Launch) (K : gK) {G : gG} {a ra lo lt : Nat} {x y : Nat → Nat} {F E : Nat → Int32} {N : Nat} (h : sR K G a ra lo lt x y F E N) {P : Nat} (ok : fOk F P N) {b9 : Nat} {w u p9 str : Int32} {fa nu : UInt32} (ht : G b9 = some (.inl (.inr (7, [.int w, .int u, .float fa, .float nu])))) (hlk5 : u = -5 → fa.toInt32 = 1065353216) : Met l yX7_nail (ws_ yX7_nail cX7_nail 5 (Option.some Jvm.ClassFile.FieldType.int)) (gRm 9 3 208 238) (gPre K [.ref b9, .ref a, .int p9, .int str] G) (gQi K (fun r G1 => r = fNr F N p9 w u fa.toInt32 nu.toInt32 str ∧ if fNr F N p9 w u fa.toInt32 nu.toInt32 str < 0 then G1 = G else ∃ q, G q = none ∧ sR K G1 a ra lo lt (va_upN x N q) y (fNl F N p9 w u fa.toInt32 nu.toInt32 str) (eN E N 0) (N + 1) ∧ ∀ b, G b ≠ none → ¬ sA a ra lo lt x y N b → G1 b = G b)) 3 208 (gA K) := by
  refine g_met (by decide) (Nat.le_of_ble_eq_true rfl) ?_
  intro p e s m below meth c M hr hlk hnm hR ls hl
  have M : gM K p s m _ c cX7_nail 5 RX7 := M
  have hx := M.hx
  have hb := M.hb
  have hS : va_S (gA K) s.heap s.heap [] := va_S.rf
  have hl : lv_has ls 5 [(0, .ref b9), (1, .ref a), (2, .int p9), (3, .int str)] := hl
  refine lv_aload_n hx hb dX7_nail_0 rfl (lv_at hl 0 rfl) ?_
  refine g_get (C := RX7) (T := TX7) (N := 4) M hR ht rfl in_X7 3 (by decide) q843 (fun x h => h) rfl dX7_nail_1 ?_
  refine g_f2i M hl.1 q860 q435 q434 q78 dX7_nail_4 (Nat.le_of_ble_eq_true rfl) (Nat.le_of_ble_eq_true rfl) ?_
  refine lv_istore (lv' := [(4, _), (0, _), (1, _), (2, _), (3, _)]) hx hb dX7_nail_7 hl (by decide) rfl (fun ls hl => ?_)
  refine lv_aload_n hx hb dX7_nail_9 rfl (lv_at hl 1 rfl) ?_
  refine g_get (C := RX7) (T := TX7) (N := 4) M hR ht rfl in_X7 1 (by decide) q841 (fun x h => h) rfl dX7_nail_10 ?_
  refine lv_bipush (v := ((-5) : Int32)) hx hb dX7_nail_13 (by decide) ?_
  refine lv_icmp_ne (tgt := 33) hx hb dX7_nail_15 (by decide) (fun c15 => ?_) (fun c15 => ?_)
  · refine lv_aload_n hx hb dX7_nail_33 rfl (lv_at hl 2 rfl) ?_
    refine lv_iload_n hx hb dX7_nail_34 rfl (lv_at hl 3 rfl) ?_
    refine lv_aload_n hx hb dX7_nail_35 rfl (lv_at hl 1 rfl) ?_
    refine g_get (C := RX7) (T := TX7) (N := 4) M hR ht rfl in_X7 0 (by decide) q840 (fun x h => h) rfl dX7_nail_36 ?_
    refine lv_aload_n hx hb dX7_nail_39 rfl (lv_at hl 1 rfl) ?_
    refine g_get (C := RX7) (T := TX7) (N := 4) M hR ht rfl in_X7 1 (by decide) q841 (fun x h => h) rfl dX7_nail_40 ?_
    refine lv_aload_n hx hb dX7_nail_43 rfl (lv_at hl 1 rfl) ?_
    refine g_get (C := RX7) (T := TX7) (N := 4) M hR ht rfl in_X7 2 (by decide) q842 (fun x h => h) rfl dX7_nail_44 ?_
    refine g_f2i M hl.1 q860 q435 q434 q78 dX7_nail_47 (Nat.le_of_ble_eq_true rfl) (Nat.le_of_ble_eq_true rfl) ?_
    refine lv_iload hx hb dX7_nail_50 (lv_at hl 0 rfl) ?_
    refine lv_iload_n hx hb dX7_nail_52 rfl (lv_at hl 4 rfl) ?_
    refine g_ki (g_V (As := [_, _, _, _, _, _]) M hR hS (c_X1_nailLink l K h ok _ _ _ _ _ _) (lw_V q862 q477 q478 q61 q479) 6 md_X1_nailLink rfl ⟨rfl, rfl⟩ ⟨Nat.le_of_ble_eq_true rfl, Nat.le_of_ble_eq_true rfl⟩ (hR.recv M h.obj rfl) rfl hl.1 rfl (lv_room (Nat.le_of_ble_eq_true rfl)) dX7_nail_53 ⟨(by first | exact Nat.le_refl _ | exact Nat.zero_le _ | (dsimp only; omega)), (by first | exact Nat.le_refl _ | exact Nat.zero_le _ | (dsimp only; omega))⟩) hS (fun r53 G53 H locs hp53 hR hS => ?_)
    obtain ⟨rfl, h53⟩ := hp53
    exact g_iret M hr hlk hR hS (by omega) (by omega) dX7_nail_56 (⟨(nk_eq c15).1, nk_if (fun F9 => ∃ q, G q = none ∧ sR K G53 a ra lo lt (va_upN x N q) y F9 (eN E N 0) (N + 1) ∧ ∀ b, G b ≠ none → ¬ sA a ra lo lt x y N b → G53 b = G b) c15 h53⟩)
  · refine lv_aload_n hx hb dX7_nail_18 rfl (lv_at hl 2 rfl) ?_
    refine lv_iload_n hx hb dX7_nail_19 rfl (lv_at hl 3 rfl) ?_
    refine lv_aload_n hx hb dX7_nail_20 rfl (lv_at hl 1 rfl) ?_
    refine g_get (C := RX7) (T := TX7) (N := 4) M hR ht rfl in_X7 0 (by decide) q840 (fun x h => h) rfl dX7_nail_21 ?_
    refine lv_iload hx hb dX7_nail_24 (lv_at hl 0 rfl) ?_
    refine lv_iload_n hx hb dX7_nail_26 rfl (lv_at hl 4 rfl) ?_
    refine g_ki (g_V (As := [_, _, _, _]) M hR hS (c_X1_nail l K h ok _ _ _ _) (lw_V q861 q441 q442 q61 q443) 4 md_X1_nail rfl ⟨rfl, rfl⟩ ⟨Nat.le_of_ble_eq_true rfl, Nat.le_of_ble_eq_true rfl⟩ (hR.recv M h.obj rfl) rfl hl.1 rfl (lv_room (Nat.le_of_ble_eq_true rfl)) dX7_nail_27 ⟨(by first | exact Nat.le_refl _ | exact Nat.zero_le _ | (dsimp only; omega)), (by first | exact Nat.le_refl _ | exact Nat.zero_le _ | (dsimp only; omega))⟩) hS (fun r27 G27 H locs hp27 hR hS => ?_)
    obtain ⟨rfl, h27⟩ := hp27
    refine lv_goto (tgt := 56) hx hb dX7_nail_30 (by decide) ?_
    exact g_iret M hr hlk hR hS (by omega) (by omega) dX7_nail_56 (by have hu : u = -5 := c15; rw [hu, hlk5 hu]; exact ⟨rfl, h27⟩)
